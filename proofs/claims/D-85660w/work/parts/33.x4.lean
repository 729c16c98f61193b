set_option maxRecDepth 100000
/-! ===== PondHouse: what its blocks do (printed by tools/gx.py) ===== -/
theorem W_X4_signed_f {G : am_G} {d : Nat} {a0 : Nat} {σ : am_S} {Q : Int32 → am_S → Prop} {E : Nat → am_S → Prop} (h : f_o σ (some a0) [4] (fun b => W_X4_takes G d b 45 σ (fun v1 σ2 => f_gi σ2 (some a0) [4] 2 (fun v5 => ((v5 = 4 → f_gi σ2 (some a0) [4] 3 (fun v6 => f_o σ2 (some a0) [4] (fun b => W_X4_next G d b σ2 (fun σ8 => ((v1 = 0 → Q v6 σ8) ∧ (¬ v1 = 0 → Q (-v6) σ8)))))) ∧ (¬ v5 = 4 → f_o σ2 (some a0) [4] (fun b => W_X4_bad G d b σ2 (fun v11 σ12 => f_o σ12 v11 [3] (fun q => E q σ12))))))))) : W_X4_signed G (d + 1) a0 σ Q E := by
  unfold W_X4_signed
  refine am_aloadr_n (x := some a0) dX4_signed_0 rfl rfl ?_
  refine am_bipush (v := 45) dX4_signed_1 (by decide) ?_
  refine fx_callV (Mc := m_X4_takes) (as := [.int 45]) (cs := [4]) (r := (some a0)) (f_clsC inf_X4 qs54 f_cls0) bm_X4_takes q1729 q1731 (Nat.le_of_ble_eq_true rfl) dX4_signed_3 h (fun b h => mt_X4_takes (fx_k2i h (fun v1 σ2 h => ?_) (fun q σ' h => h.elim)))
  refine am_istore_n (L' := [(2, .int v1), (0, va_rf (some a0))]) dX4_signed_6 rfl (Nat.le_of_ble_eq_true rfl) rfl ?_
  refine am_aloadr_n (x := some a0) dX4_signed_7 rfl rfl ?_
  refine fx_gi (k := 2) (f_fldC (ref := "PondHouse$Reader") inf_X4 (by decide) q1181 (Or.inl rfl) f_fld0) dX4_signed_8 h (fun v5 h => ?_)
  refine am_iconst (v := 4) dX4_signed_11 (by decide) ?_
  refine am_icmp_eq (tgt := 20) dX4_signed_12 (by decide) (fun c => ?_) (fun c => ?_)
  · have h := h.1 c
    refine am_aloadr_n (x := some a0) dX4_signed_20 rfl rfl ?_
    refine fx_gi (k := 3) (f_fldC (ref := "PondHouse$Reader") inf_X4 (by decide) q1183 (Or.inl rfl) f_fld0) dX4_signed_21 h (fun v6 h => ?_)
    refine am_istore_n (L' := [(4, .int v6), (2, .int v1), (0, va_rf (some a0))]) dX4_signed_24 rfl (Nat.le_of_ble_eq_true rfl) rfl ?_
    refine am_aloadr_n (x := some a0) dX4_signed_25 rfl rfl ?_
    refine fx_callV (Mc := m_X4_next) (as := []) (cs := [4]) (r := (some a0)) (f_clsC inf_X4 qs36 f_cls0) bm_X4_next q1396 q1398 (Nat.le_of_ble_eq_true rfl) dX4_signed_26 h (fun b h => mt_X4_next (fx_k2v h (fun σ8 h => ?_) (fun q σ' h => h.elim)))
    refine am_iload_n (x := v1) dX4_signed_29 rfl rfl ?_
    refine am_if_eq (tgt := 38) dX4_signed_30 (by decide) (fun c => ?_) (fun c => ?_)
    · have h := h.1 c
      refine am_iload_n (x := v6) dX4_signed_38 rfl rfl ?_
      exact am_iret rfl dX4_signed_39 h
    · have h := h.2 c
      refine am_iload_n (x := v6) dX4_signed_33 rfl rfl ?_
      refine am_ineg dX4_signed_34 ?_
      refine am_goto (tgt := 39) dX4_signed_35 (by decide) ?_
      exact am_iret rfl dX4_signed_39 h
  · have h := h.2 c
    refine am_aloadr_n (x := some a0) dX4_signed_15 rfl rfl ?_
    refine fx_callV (Mc := m_X4_bad) (as := []) (cs := [4]) (r := (some a0)) (f_clsC inf_X4 qs46 f_cls0) bm_X4_bad q1682 q1684 (Nat.le_of_ble_eq_true rfl) dX4_signed_16 h (fun b h => mt_X4_bad (fx_k2r h (fun v11 σ12 h => ?_) (fun q σ' h => h.elim)))
    exact fx_throw (cs := [3]) dX4_signed_19 h (fun q h => am_xout (by decide +kernel) h)
theorem W_X4_patch_f {G : am_G} {d : Nat} {a0 : Nat} {σ : am_S} {Q : Option Nat → am_S → Prop} {E : Nat → am_S → Prop} (h : f_o σ (some a0) [4] (fun b => W_X4_begins G d b σ (fun σ2 => f_new G σ2 7 1 tyX7 (fun n5 σ6 => W_X7_init G d n5 σ6 (fun σ8 => B_X4_patch_12 G (d + 1) a0 (some n5) σ8 Q E))))) : W_X4_patch G (d + 1) a0 σ Q E := by
  unfold W_X4_patch
  refine am_aloadr_n (x := some a0) dX4_patch_0 rfl rfl ?_
  refine fx_callV (Mc := m_X4_begins) (as := []) (cs := [4]) (r := (some a0)) (f_clsC inf_X4 q1394 f_cls0) bm_X4_begins q1702 q1393 (Nat.le_of_ble_eq_true rfl) dX4_patch_1 h (fun b h => mt_X4_begins (fx_k2v h (fun σ2 h => ?_) (fun q σ' h => h.elim)))
  refine fx_new inf_X7 q1703 q515 q181 dX4_patch_4 h (fun n5 σ6 h => ?_)
  refine am_dup dX4_patch_7 (am_rf_cat _) ?_
  refine fx_callIN (Mc := m_X7_init) (as := []) bm_X7_init q1704 q517 rfl rfl (Nat.le_of_ble_eq_true rfl) dX4_patch_8 (mt_X7_init (fx_k2v h (fun σ8 h => ?_) (fun q σ' h => h.elim)))
  refine am_astore_n (x := (some n5)) (L' := [(2, va_rf (some n5)), (0, va_rf (some a0))]) dX4_patch_11 rfl (Nat.le_of_ble_eq_true rfl) rfl ?_
  exact am_lss h rfl
theorem B_X4_patch_12_f {G : am_G} {d : Nat} {a0 : Nat} {x1 : Option Nat} {σ : am_S} {Q : Option Nat → am_S → Prop} {E : Nat → am_S → Prop} (h : f_o σ (some a0) [4] (fun b => W_X4_change G d b σ (fun v1 σ2 => f_o σ2 x1 [7] (fun b => W_X7_add G d b v1 σ2 (fun σ6 => f_gi σ6 (some a0) [4] 2 (fun v9 => ((¬ v9 = 0 → B_X4_patch_12 G (d + 1) a0 x1 σ6 Q E) ∧ (v9 = 0 → Q x1 σ6)))))) E)) : B_X4_patch_12 G (d + 1) a0 x1 σ Q E := by
  unfold B_X4_patch_12
  refine am_aloadr_n (x := x1) dX4_patch_12 rfl rfl ?_
  refine am_aloadr_n (x := some a0) dX4_patch_13 rfl rfl ?_
  refine fx_callV (Mc := m_X4_change) (as := []) (cs := [4]) (r := (some a0)) (f_clsC inf_X4 qs73 f_cls0) bm_X4_change q2068 q2070 (Nat.le_of_ble_eq_true rfl) dX4_patch_14 h (fun b h => mt_X4_change (fx_k2r h (fun v1 σ2 h => ?_) (fun q σ' h => am_xout (by decide +kernel) h)))
  refine fx_callV (Mc := m_X7_add) (as := [va_rf v1]) (cs := [7]) (r := x1) (f_clsC inf_X7 q626 f_cls0) bm_X7_add q1724 q625 (Nat.le_of_ble_eq_true rfl) dX4_patch_17 h (fun b h => mt_X7_add (fx_k2v h (fun σ6 h => ?_) (fun q σ' h => h.elim)))
  refine am_aloadr_n (x := some a0) dX4_patch_20 rfl rfl ?_
  refine fx_gi (k := 2) (f_fldC (ref := "PondHouse$Reader") inf_X4 (by decide) q1181 (Or.inl rfl) f_fld0) dX4_patch_21 h (fun v9 h => ?_)
  refine am_if_ne (tgt := 12) dX4_patch_24 (by decide) (fun c => ?_) (fun c => ?_)
  · have h := h.1 c
    exact am_lss h rfl
  · have h := h.2 c
    refine am_aloadr_n (x := x1) dX4_patch_27 rfl rfl ?_
    exact fx_aret rfl rfl dX4_patch_28 h
theorem W_X4_change_f {G : am_G} {d : Nat} {a0 : Nat} {σ : am_S} {Q : Option Nat → am_S → Prop} {E : Nat → am_S → Prop} (h : f_o σ (some a0) [4] (fun b => W_X4_takesWord G d b (some (am_sk G 1)) σ (fun v1 σ2 => ((v1 = 0 → f_o σ2 (some a0) [4] (fun b => W_X4_takesWord G d b (some (am_sk G 17)) σ2 (fun v5 σ6 => ((v5 = 0 → f_o σ6 (some a0) [4] (fun b => W_X4_isWord G d b (some (am_sk G 18)) σ6 (fun v9 σ10 => f_o σ10 (some a0) [4] (fun b => W_X4_isWord G d b (some (am_sk G 19)) σ10 (fun v13 σ14 => ((¬ v9 = 0 → B_X4_change_69 G (d + 1) a0 v9 v13 σ14 Q E) ∧ (v9 = 0 → ((¬ v13 = 0 → B_X4_change_69 G (d + 1) a0 v9 v13 σ14 Q E) ∧ (v13 = 0 → f_o σ14 (some a0) [4] (fun b => W_X4_isWord G d b (some (am_sk G 22)) σ14 (fun v17 σ18 => ((¬ v17 = 0 → B_X4_change_69 G (d + 1) a0 v9 v13 σ18 Q E) ∧ (v17 = 0 → f_o σ18 (some a0) [4] (fun b => W_X4_bad G d b σ18 (fun v21 σ22 => f_o σ22 v21 [3] (fun q => E q σ22)))))))))))))))) ∧ (¬ v5 = 0 → f_o σ6 (some a0) [4] (fun b => W_X4_changes G d b σ6 (fun v25 σ26 => Q v25 σ26) E)))))) ∧ (¬ v1 = 0 → f_o σ2 (some a0) [4] (fun b => W_X4_comes G d b σ2 (fun v29 σ30 => Q v29 σ30) E)))))) : W_X4_change G (d + 1) a0 σ Q E := by
  unfold W_X4_change
  refine am_aloadr_n (x := some a0) dX4_change_0 rfl rfl ?_
  refine am_ldcwS (i := 1) rfl q1705 dX4_change_1 ?_
  refine fx_callV (Mc := m_X4_takesWord) (as := [va_rf (some (am_sk G 1))]) (cs := [4]) (r := (some a0)) (f_clsC inf_X4 qs50 f_cls0) bm_X4_takesWord q1706 q1708 (Nat.le_of_ble_eq_true rfl) dX4_change_4 h (fun b h => mt_X4_takesWord (fx_k2i h (fun v1 σ2 h => ?_) (fun q σ' h => h.elim)))
  refine am_if_eq (tgt := 15) dX4_change_7 (by decide) (fun c => ?_) (fun c => ?_)
  · have h := h.1 c
    refine am_aloadr_n (x := some a0) dX4_change_15 rfl rfl ?_
    refine am_ldcwS (i := 17) rfl q2115 dX4_change_16 ?_
    refine fx_callV (Mc := m_X4_takesWord) (as := [va_rf (some (am_sk G 17))]) (cs := [4]) (r := (some a0)) (f_clsC inf_X4 qs50 f_cls0) bm_X4_takesWord q1706 q1708 (Nat.le_of_ble_eq_true rfl) dX4_change_19 h (fun b h => mt_X4_takesWord (fx_k2i h (fun v5 σ6 h => ?_) (fun q σ' h => h.elim)))
    refine am_if_eq (tgt := 30) dX4_change_22 (by decide) (fun c => ?_) (fun c => ?_)
    · have h := h.1 c
      refine am_aloadr_n (x := some a0) dX4_change_30 rfl rfl ?_
      refine am_ldcwS (i := 18) rfl q2166 dX4_change_31 ?_
      refine fx_callV (Mc := m_X4_isWord) (as := [va_rf (some (am_sk G 18))]) (cs := [4]) (r := (some a0)) (f_clsC inf_X4 qs51 f_cls0) bm_X4_isWord q1710 q1712 (Nat.le_of_ble_eq_true rfl) dX4_change_34 h (fun b h => mt_X4_isWord (fx_k2i h (fun v9 σ10 h => ?_) (fun q σ' h => h.elim)))
      refine am_istore_n (L' := [(2, .int v9), (0, va_rf (some a0))]) dX4_change_37 rfl (Nat.le_of_ble_eq_true rfl) rfl ?_
      refine am_aloadr_n (x := some a0) dX4_change_38 rfl rfl ?_
      refine am_ldcwS (i := 19) rfl q2167 dX4_change_39 ?_
      refine fx_callV (Mc := m_X4_isWord) (as := [va_rf (some (am_sk G 19))]) (cs := [4]) (r := (some a0)) (f_clsC inf_X4 qs51 f_cls0) bm_X4_isWord q1710 q1712 (Nat.le_of_ble_eq_true rfl) dX4_change_42 h (fun b h => mt_X4_isWord (fx_k2i h (fun v13 σ14 h => ?_) (fun q σ' h => h.elim)))
      refine am_istore_n (L' := [(4, .int v13), (2, .int v9), (0, va_rf (some a0))]) dX4_change_45 rfl (Nat.le_of_ble_eq_true rfl) rfl ?_
      refine am_iload_n (x := v9) dX4_change_46 rfl rfl ?_
      refine am_if_ne (tgt := 69) dX4_change_47 (by decide) (fun c => ?_) (fun c => ?_)
      · have h := h.1 c
        exact am_lss h rfl
      · have h := h.2 c
        refine am_iload_n (x := v13) dX4_change_50 rfl rfl ?_
        refine am_if_ne (tgt := 69) dX4_change_51 (by decide) (fun c => ?_) (fun c => ?_)
        · have h := h.1 c
          exact am_lss h rfl
        · have h := h.2 c
          refine am_aloadr_n (x := some a0) dX4_change_54 rfl rfl ?_
          refine am_ldcwS (i := 22) rfl q2168 dX4_change_55 ?_
          refine fx_callV (Mc := m_X4_isWord) (as := [va_rf (some (am_sk G 22))]) (cs := [4]) (r := (some a0)) (f_clsC inf_X4 qs51 f_cls0) bm_X4_isWord q1710 q1712 (Nat.le_of_ble_eq_true rfl) dX4_change_58 h (fun b h => mt_X4_isWord (fx_k2i h (fun v17 σ18 h => ?_) (fun q σ' h => h.elim)))
          refine am_if_ne (tgt := 69) dX4_change_61 (by decide) (fun c => ?_) (fun c => ?_)
          · have h := h.1 c
            exact am_lss h rfl
          · have h := h.2 c
            refine am_aloadr_n (x := some a0) dX4_change_64 rfl rfl ?_
            refine fx_callV (Mc := m_X4_bad) (as := []) (cs := [4]) (r := (some a0)) (f_clsC inf_X4 qs46 f_cls0) bm_X4_bad q1682 q1684 (Nat.le_of_ble_eq_true rfl) dX4_change_65 h (fun b h => mt_X4_bad (fx_k2r h (fun v21 σ22 h => ?_) (fun q σ' h => h.elim)))
            exact fx_throw (cs := [3]) dX4_change_68 h (fun q h => am_xout (by decide +kernel) h)
    · have h := h.2 c
      refine am_aloadr_n (x := some a0) dX4_change_25 rfl rfl ?_
      refine fx_callV (Mc := m_X4_changes) (as := []) (cs := [4]) (r := (some a0)) (f_clsC inf_X4 qs75 f_cls0) bm_X4_changes q2116 q2118 (Nat.le_of_ble_eq_true rfl) dX4_change_26 h (fun b h => mt_X4_changes (fx_k2r h (fun v25 σ26 h => ?_) (fun q σ' h => am_xout (by decide +kernel) h)))
      exact fx_aret rfl rfl dX4_change_29 h
  · have h := h.2 c
    refine am_aloadr_n (x := some a0) dX4_change_10 rfl rfl ?_
    refine fx_callV (Mc := m_X4_comes) (as := []) (cs := [4]) (r := (some a0)) (f_clsC inf_X4 qs74 f_cls0) bm_X4_comes q2072 q2074 (Nat.le_of_ble_eq_true rfl) dX4_change_11 h (fun b h => mt_X4_comes (fx_k2r h (fun v29 σ30 h => ?_) (fun q σ' h => am_xout (by decide +kernel) h)))
    exact fx_aret rfl rfl dX4_change_14 h
theorem B_X4_change_69_f {G : am_G} {d : Nat} {a0 : Nat} {x1 : Int32} {x2 : Int32} {σ : am_S} {Q : Option Nat → am_S → Prop} {E : Nat → am_S → Prop} (h : f_o σ (some a0) [4] (fun b => W_X4_next G d b σ (fun σ2 => f_o σ2 (some a0) [4] (fun b => W_X4_takesName G d b σ2 (fun v5 σ6 => ((x1 = 0 → ((x2 = 0 → f_new G σ6 30 4 tyX33 (fun n9 σ10 => f_gr σ10 (some a0) [4] 7 (fun v11 => f_o σ10 (some a0) [4] (fun b => W_X4_worth G d b σ10 (fun v12 σ13 => W_X33_init G d n9 v11 v5 v12 σ13 (fun σ17 => B_X4_change_137 G (d + 1) a0 (some n9) σ17 Q E)) E)))) ∧ (¬ x2 = 0 → f_new G σ6 29 4 tyX32 (fun n20 σ21 => f_gr σ21 (some a0) [4] 7 (fun v22 => f_o σ21 (some a0) [4] (fun b => W_X4_under G d b none σ21 (fun v23 σ24 => W_X32_init G d n20 v22 v5 v23 σ24 (fun σ28 => B_X4_change_137 G (d + 1) a0 (some n20) σ28 Q E)) E)))))) ∧ (¬ x1 = 0 → f_new G σ6 28 3 tyX31 (fun n31 σ32 => f_gr σ32 (some a0) [4] 7 (fun v33 => W_X31_init G d n31 v33 v5 σ32 (fun σ35 => B_X4_change_137 G (d + 1) a0 (some n31) σ35 Q E)))))) E)))) : B_X4_change_69 G (d + 1) a0 x1 x2 σ Q E := by
  unfold B_X4_change_69
  refine am_aloadr_n (x := some a0) dX4_change_69 rfl rfl ?_
  refine fx_callV (Mc := m_X4_next) (as := []) (cs := [4]) (r := (some a0)) (f_clsC inf_X4 qs36 f_cls0) bm_X4_next q1396 q1398 (Nat.le_of_ble_eq_true rfl) dX4_change_70 h (fun b h => mt_X4_next (fx_k2v h (fun σ2 h => ?_) (fun q σ' h => h.elim)))
  refine am_aloadr_n (x := some a0) dX4_change_73 rfl rfl ?_
  refine fx_callV (Mc := m_X4_takesName) (as := []) (cs := [4]) (r := (some a0)) (f_clsC inf_X4 qs44 f_cls0) bm_X4_takesName q1842 q1676 (Nat.le_of_ble_eq_true rfl) dX4_change_74 h (fun b h => mt_X4_takesName (fx_k2i h (fun v5 σ6 h => ?_) (fun q σ' h => am_xout (by decide +kernel) h)))
  refine am_istore_n (L' := [(6, .int v5), (0, va_rf (some a0)), (2, .int x1), (4, .int x2)]) dX4_change_77 rfl (Nat.le_of_ble_eq_true rfl) rfl ?_
  refine am_iload_n (x := x1) dX4_change_78 rfl rfl ?_
  refine am_if_eq (tgt := 97) dX4_change_79 (by decide) (fun c => ?_) (fun c => ?_)
  · have h := h.1 c
    refine am_iload_n (x := x2) dX4_change_97 rfl rfl ?_
    refine am_if_eq (tgt := 121) dX4_change_98 (by decide) (fun c => ?_) (fun c => ?_)
    · have h := h.1 c
      refine fx_new inf_X33 q2196 q2197 q211 dX4_change_121 h (fun n9 σ10 h => ?_)
      refine am_dup dX4_change_124 (am_rf_cat _) ?_
      refine am_aloadr_n (x := some a0) dX4_change_125 rfl rfl ?_
      refine fx_gr (k := 7) (f_fldC (ref := "PondHouse$Reader") inf_X4 (by decide) q1187 (Or.inl rfl) f_fld0) dX4_change_126 h (fun v11 h => ?_)
      refine am_iload_n (x := v5) dX4_change_129 rfl rfl ?_
      refine am_aloadr_n (x := some a0) dX4_change_130 rfl rfl ?_
      refine fx_callV (Mc := m_X4_worth) (as := []) (cs := [4]) (r := (some a0)) (f_clsC inf_X4 qs64 f_cls0) bm_X4_worth q1805 q1807 (Nat.le_of_ble_eq_true rfl) dX4_change_131 h (fun b h => mt_X4_worth (fx_k2r h (fun v12 σ13 h => ?_) (fun q σ' h => am_xout (by decide +kernel) h)))
      refine fx_callI (Mc := m_X33_init) (as := [va_rf v11, .int v5, va_rf v12]) bm_X33_init q2198 q2199 rfl rfl (Nat.le_of_ble_eq_true rfl) dX4_change_134 (mt_X33_init (fx_k2v h (fun σ17 h => ?_) (fun q σ' h => h.elim)))
      exact am_lss h rfl
    · have h := h.2 c
      refine fx_new inf_X32 q2181 q2182 q210 dX4_change_101 h (fun n20 σ21 h => ?_)
      refine am_dup dX4_change_104 (am_rf_cat _) ?_
      refine am_aloadr_n (x := some a0) dX4_change_105 rfl rfl ?_
      refine fx_gr (k := 7) (f_fldC (ref := "PondHouse$Reader") inf_X4 (by decide) q1187 (Or.inl rfl) f_fld0) dX4_change_106 h (fun v22 h => ?_)
      refine am_iload_n (x := v5) dX4_change_109 rfl rfl ?_
      refine am_aloadr_n (x := some a0) dX4_change_110 rfl rfl ?_
      refine am_null dX4_change_111 ?_
      refine fx_callV (Mc := m_X4_under) (as := [va_rf none]) (cs := [4]) (r := (some a0)) (f_clsC inf_X4 qs52 f_cls0) bm_X4_under q1718 q1720 (Nat.le_of_ble_eq_true rfl) dX4_change_112 h (fun b h => mt_X4_under (fx_k2i h (fun v23 σ24 h => ?_) (fun q σ' h => am_xout (by decide +kernel) h)))
      refine fx_callI (Mc := m_X32_init) (as := [va_rf v22, .int v5, .int v23]) bm_X32_init q2183 q2184 rfl rfl (Nat.le_of_ble_eq_true rfl) dX4_change_115 (mt_X32_init (fx_k2v h (fun σ28 h => ?_) (fun q σ' h => h.elim)))
      refine am_goto (tgt := 137) dX4_change_118 (by decide) ?_
      exact am_lss h rfl
  · have h := h.2 c
    refine fx_new inf_X31 q2169 q2170 q209 dX4_change_82 h (fun n31 σ32 h => ?_)
    refine am_dup dX4_change_85 (am_rf_cat _) ?_
    refine am_aloadr_n (x := some a0) dX4_change_86 rfl rfl ?_
    refine fx_gr (k := 7) (f_fldC (ref := "PondHouse$Reader") inf_X4 (by decide) q1187 (Or.inl rfl) f_fld0) dX4_change_87 h (fun v33 h => ?_)
    refine am_iload_n (x := v5) dX4_change_90 rfl rfl ?_
    refine fx_callI (Mc := m_X31_init) (as := [va_rf v33, .int v5]) bm_X31_init q2171 q2172 rfl rfl (Nat.le_of_ble_eq_true rfl) dX4_change_91 (mt_X31_init (fx_k2v h (fun σ35 h => ?_) (fun q σ' h => h.elim)))
    refine am_goto (tgt := 137) dX4_change_94 (by decide) ?_
    exact am_lss h rfl
theorem B_X4_change_137_f {G : am_G} {d : Nat} {a0 : Nat} {s0 : Option Nat} {σ : am_S} {Q : Option Nat → am_S → Prop} {E : Nat → am_S → Prop} (h : f_o σ (some a0) [4] (fun b => W_X4_needs G d b 59 σ (fun σ2 => Q s0 σ2) E)) : B_X4_change_137 G (d + 1) a0 s0 σ Q E := by
  unfold B_X4_change_137
  refine am_astore (x := s0) (L' := [(8, va_rf s0), (0, va_rf (some a0))]) dX4_change_137 (Nat.le_of_ble_eq_true rfl) rfl ?_
  refine am_aloadr_n (x := some a0) dX4_change_139 rfl rfl ?_
  refine am_bipush (v := 59) dX4_change_140 (by decide) ?_
  refine fx_callV (Mc := m_X4_needs) (as := [.int 59]) (cs := [4]) (r := (some a0)) (f_clsC inf_X4 qs53 f_cls0) bm_X4_needs q1725 q1727 (Nat.le_of_ble_eq_true rfl) dX4_change_142 h (fun b h => mt_X4_needs (fx_k2v h (fun σ2 h => ?_) (fun q σ' h => am_xout (by decide +kernel) h)))
  refine am_aloadr (x := s0) dX4_change_145 rfl ?_
  exact fx_aret rfl rfl dX4_change_147 h
theorem W_X4_comes_f {G : am_G} {d : Nat} {a0 : Nat} {σ : am_S} {Q : Option Nat → am_S → Prop} {E : Nat → am_S → Prop} (h : f_o σ (some a0) [4] (fun b => W_X4_takesName G d b σ (fun v1 σ2 => f_new G σ2 25 5 tyX28 (fun n5 σ6 => f_gr σ6 (some a0) [4] 7 (fun v7 => f_o σ6 (some a0) [4] (fun b => W_X4_under G d b none σ6 (fun v8 σ9 => W_X28_init G d n5 v7 v1 v8 σ9 (fun σ13 => f_o σ13 (some a0) [4] (fun b => W_X4_needs G d b 123 σ13 (fun σ17 => B_X4_comes_29 G (d + 1) a0 (some n5) σ17 Q E) E))) E)))) E)) : W_X4_comes G (d + 1) a0 σ Q E := by
  unfold W_X4_comes
  refine am_aloadr_n (x := some a0) dX4_comes_0 rfl rfl ?_
  refine fx_callV (Mc := m_X4_takesName) (as := []) (cs := [4]) (r := (some a0)) (f_clsC inf_X4 qs44 f_cls0) bm_X4_takesName q1842 q1676 (Nat.le_of_ble_eq_true rfl) dX4_comes_1 h (fun b h => mt_X4_takesName (fx_k2i h (fun v1 σ2 h => ?_) (fun q σ' h => am_xout (by decide +kernel) h)))
  refine am_istore_n (L' := [(2, .int v1), (0, va_rf (some a0))]) dX4_comes_4 rfl (Nat.le_of_ble_eq_true rfl) rfl ?_
  refine fx_new inf_X28 q2076 q2077 q206 dX4_comes_5 h (fun n5 σ6 h => ?_)
  refine am_dup dX4_comes_8 (am_rf_cat _) ?_
  refine am_aloadr_n (x := some a0) dX4_comes_9 rfl rfl ?_
  refine fx_gr (k := 7) (f_fldC (ref := "PondHouse$Reader") inf_X4 (by decide) q1187 (Or.inl rfl) f_fld0) dX4_comes_10 h (fun v7 h => ?_)
  refine am_iload_n (x := v1) dX4_comes_13 rfl rfl ?_
  refine am_aloadr_n (x := some a0) dX4_comes_14 rfl rfl ?_
  refine am_null dX4_comes_15 ?_
  refine fx_callV (Mc := m_X4_under) (as := [va_rf none]) (cs := [4]) (r := (some a0)) (f_clsC inf_X4 qs52 f_cls0) bm_X4_under q1718 q1720 (Nat.le_of_ble_eq_true rfl) dX4_comes_16 h (fun b h => mt_X4_under (fx_k2i h (fun v8 σ9 h => ?_) (fun q σ' h => am_xout (by decide +kernel) h)))
  refine fx_callI (Mc := m_X28_init) (as := [va_rf v7, .int v1, .int v8]) bm_X28_init q2078 q2079 rfl rfl (Nat.le_of_ble_eq_true rfl) dX4_comes_19 (mt_X28_init (fx_k2v h (fun σ13 h => ?_) (fun q σ' h => h.elim)))
  refine am_astore_n (x := (some n5)) (L' := [(4, va_rf (some n5)), (2, .int v1), (0, va_rf (some a0))]) dX4_comes_22 rfl (Nat.le_of_ble_eq_true rfl) rfl ?_
  refine am_aloadr_n (x := some a0) dX4_comes_23 rfl rfl ?_
  refine am_bipush (v := 123) dX4_comes_24 (by decide) ?_
  refine fx_callV (Mc := m_X4_needs) (as := [.int 123]) (cs := [4]) (r := (some a0)) (f_clsC inf_X4 qs53 f_cls0) bm_X4_needs q1725 q1727 (Nat.le_of_ble_eq_true rfl) dX4_comes_26 h (fun b h => mt_X4_needs (fx_k2v h (fun σ17 h => ?_) (fun q σ' h => am_xout (by decide +kernel) h)))
  exact am_lss h rfl
theorem B_X4_comes_29_f {G : am_G} {d : Nat} {a0 : Nat} {x2 : Option Nat} {σ : am_S} {Q : Option Nat → am_S → Prop} {E : Nat → am_S → Prop} (h : f_o σ (some a0) [4] (fun b => W_X4_isMember G d b σ (fun v1 σ2 => ((v1 = 0 → f_o σ2 (some a0) [4] (fun b => W_X4_needs G d b 125 σ2 (fun σ6 => Q x2 σ6) E)) ∧ (¬ v1 = 0 → f_gr σ2 x2 [25] 3 (fun v9 => f_o σ2 (some a0) [4] (fun b => W_X4_member G d b none none σ2 (fun v10 σ11 => f_o σ11 v9 [7] (fun b => W_X7_add G d b v10 σ11 (fun σ15 => B_X4_comes_29 G (d + 1) a0 x2 σ15 Q E))) E))))))) : B_X4_comes_29 G (d + 1) a0 x2 σ Q E := by
  unfold B_X4_comes_29
  refine am_aloadr_n (x := some a0) dX4_comes_29 rfl rfl ?_
  refine fx_callV (Mc := m_X4_isMember) (as := []) (cs := [4]) (r := (some a0)) (f_clsC inf_X4 qs56 f_cls0) bm_X4_isMember q1737 q1739 (Nat.le_of_ble_eq_true rfl) dX4_comes_30 h (fun b h => mt_X4_isMember (fx_k2i h (fun v1 σ2 h => ?_) (fun q σ' h => h.elim)))
  refine am_if_eq (tgt := 52) dX4_comes_33 (by decide) (fun c => ?_) (fun c => ?_)
  · have h := h.1 c
    refine am_aloadr_n (x := some a0) dX4_comes_52 rfl rfl ?_
    refine am_bipush (v := 125) dX4_comes_53 (by decide) ?_
    refine fx_callV (Mc := m_X4_needs) (as := [.int 125]) (cs := [4]) (r := (some a0)) (f_clsC inf_X4 qs53 f_cls0) bm_X4_needs q1725 q1727 (Nat.le_of_ble_eq_true rfl) dX4_comes_55 h (fun b h => mt_X4_needs (fx_k2v h (fun σ6 h => ?_) (fun q σ' h => am_xout (by decide +kernel) h)))
    refine am_aloadr_n (x := x2) dX4_comes_58 rfl rfl ?_
    exact fx_aret rfl rfl dX4_comes_59 h
  · have h := h.2 c
    refine am_aloadr_n (x := x2) dX4_comes_36 rfl rfl ?_
    refine fx_gr (k := 3) (f_fldN (ref := "PondHouse$Comes") inf_X28 (by decide) q2089 rfl f_fld0) dX4_comes_37 h (fun v9 h => ?_)
    refine am_aloadr_n (x := some a0) dX4_comes_40 rfl rfl ?_
    refine am_null dX4_comes_41 ?_
    refine am_null dX4_comes_42 ?_
    refine fx_callV (Mc := m_X4_member) (as := [va_rf none, va_rf none]) (cs := [4]) (r := (some a0)) (f_clsC inf_X4 qs57 f_cls0) bm_X4_member q1745 q1747 (Nat.le_of_ble_eq_true rfl) dX4_comes_43 h (fun b h => mt_X4_member (fx_k2r h (fun v10 σ11 h => ?_) (fun q σ' h => am_xout (by decide +kernel) h)))
    refine fx_callV (Mc := m_X7_add) (as := [va_rf v10]) (cs := [7]) (r := v9) (f_clsC inf_X7 q626 f_cls0) bm_X7_add q1724 q625 (Nat.le_of_ble_eq_true rfl) dX4_comes_46 h (fun b h => mt_X7_add (fx_k2v h (fun σ15 h => ?_) (fun q σ' h => h.elim)))
    refine am_goto (tgt := 29) dX4_comes_49 (by decide) ?_
    exact am_lss h rfl
theorem W_X4_changes_f {G : am_G} {d : Nat} {a0 : Nat} {σ : am_S} {Q : Option Nat → am_S → Prop} {E : Nat → am_S → Prop} (h : f_new G σ 26 4 tyX29 (fun n1 σ2 => f_gr σ2 (some a0) [4] 7 (fun v3 => f_o σ2 (some a0) [4] (fun b => W_X4_takesName G d b σ2 (fun v4 σ5 => W_X29_init G d n1 v3 v4 σ5 (fun σ9 => f_o σ9 (some a0) [4] (fun b => W_X4_needs G d b 123 σ9 (fun σ13 => B_X4_changes_22 G (d + 1) a0 (some n1) σ13 Q E) E))) E)))) : W_X4_changes G (d + 1) a0 σ Q E := by
  unfold W_X4_changes
  refine fx_new inf_X29 q2120 q814 q207 dX4_changes_0 h (fun n1 σ2 h => ?_)
  refine am_dup dX4_changes_3 (am_rf_cat _) ?_
  refine am_aloadr_n (x := some a0) dX4_changes_4 rfl rfl ?_
  refine fx_gr (k := 7) (f_fldC (ref := "PondHouse$Reader") inf_X4 (by decide) q1187 (Or.inl rfl) f_fld0) dX4_changes_5 h (fun v3 h => ?_)
  refine am_aloadr_n (x := some a0) dX4_changes_8 rfl rfl ?_
  refine fx_callV (Mc := m_X4_takesName) (as := []) (cs := [4]) (r := (some a0)) (f_clsC inf_X4 qs44 f_cls0) bm_X4_takesName q1842 q1676 (Nat.le_of_ble_eq_true rfl) dX4_changes_9 h (fun b h => mt_X4_takesName (fx_k2i h (fun v4 σ5 h => ?_) (fun q σ' h => am_xout (by decide +kernel) h)))
  refine fx_callI (Mc := m_X29_init) (as := [va_rf v3, .int v4]) bm_X29_init q2121 q2122 rfl rfl (Nat.le_of_ble_eq_true rfl) dX4_changes_12 (mt_X29_init (fx_k2v h (fun σ9 h => ?_) (fun q σ' h => h.elim)))
  refine am_astore_n (x := (some n1)) (L' := [(2, va_rf (some n1)), (0, va_rf (some a0))]) dX4_changes_15 rfl (Nat.le_of_ble_eq_true rfl) rfl ?_
  refine am_aloadr_n (x := some a0) dX4_changes_16 rfl rfl ?_
  refine am_bipush (v := 123) dX4_changes_17 (by decide) ?_
  refine fx_callV (Mc := m_X4_needs) (as := [.int 123]) (cs := [4]) (r := (some a0)) (f_clsC inf_X4 qs53 f_cls0) bm_X4_needs q1725 q1727 (Nat.le_of_ble_eq_true rfl) dX4_changes_19 h (fun b h => mt_X4_needs (fx_k2v h (fun σ13 h => ?_) (fun q σ' h => am_xout (by decide +kernel) h)))
  exact am_lss h rfl
theorem B_X4_changes_22_f {G : am_G} {d : Nat} {a0 : Nat} {x1 : Option Nat} {σ : am_S} {Q : Option Nat → am_S → Prop} {E : Nat → am_S → Prop} (h : f_o σ (some a0) [4] (fun b => W_X4_isSign G d b 125 σ (fun v1 σ2 => ((¬ v1 = 0 → f_o σ2 (some a0) [4] (fun b => W_X4_next G d b σ2 (fun σ6 => Q x1 σ6))) ∧ (v1 = 0 → f_gr σ2 x1 [26] 2 (fun v9 => f_o σ2 (some a0) [4] (fun b => W_X4_isMember G d b σ2 (fun v10 σ11 => ((v10 = 0 → f_o σ11 (some a0) [4] (fun b => W_X4_edit G d b σ11 (fun v14 σ15 => f_o σ15 v9 [7] (fun b => W_X7_add G d b v14 σ15 (fun σ19 => B_X4_changes_22 G (d + 1) a0 x1 σ19 Q E))) E)) ∧ (¬ v10 = 0 → f_new G σ11 27 4 tyX30 (fun n22 σ23 => f_o σ23 (some a0) [4] (fun b => W_X4_member G d b none none σ23 (fun v24 σ25 => W_X30_init G d n22 v24 (-1) (-1) none σ25 (fun σ29 => f_o σ29 v9 [7] (fun b => W_X7_add G d b (some n22) σ29 (fun σ33 => B_X4_changes_22 G (d + 1) a0 x1 σ33 Q E)))) E)))))))))))) : B_X4_changes_22 G (d + 1) a0 x1 σ Q E := by
  unfold B_X4_changes_22
  refine am_aloadr_n (x := some a0) dX4_changes_22 rfl rfl ?_
  refine am_bipush (v := 125) dX4_changes_23 (by decide) ?_
  refine fx_callV (Mc := m_X4_isSign) (as := [.int 125]) (cs := [4]) (r := (some a0)) (f_clsC inf_X4 qs55 f_cls0) bm_X4_isSign q1733 q1735 (Nat.le_of_ble_eq_true rfl) dX4_changes_25 h (fun b h => mt_X4_isSign (fx_k2i h (fun v1 σ2 h => ?_) (fun q σ' h => h.elim)))
  refine am_if_ne (tgt := 71) dX4_changes_28 (by decide) (fun c => ?_) (fun c => ?_)
  · have h := h.1 c
    refine am_aloadr_n (x := some a0) dX4_changes_71 rfl rfl ?_
    refine fx_callV (Mc := m_X4_next) (as := []) (cs := [4]) (r := (some a0)) (f_clsC inf_X4 qs36 f_cls0) bm_X4_next q1396 q1398 (Nat.le_of_ble_eq_true rfl) dX4_changes_72 h (fun b h => mt_X4_next (fx_k2v h (fun σ6 h => ?_) (fun q σ' h => h.elim)))
    refine am_aloadr_n (x := x1) dX4_changes_75 rfl rfl ?_
    exact fx_aret rfl rfl dX4_changes_76 h
  · have h := h.2 c
    refine am_aloadr_n (x := x1) dX4_changes_31 rfl rfl ?_
    refine fx_gr (k := 2) (f_fldN (ref := "PondHouse$Edits") inf_X29 (by decide) q2128 rfl f_fld0) dX4_changes_32 h (fun v9 h => ?_)
    refine am_aloadr_n (x := some a0) dX4_changes_35 rfl rfl ?_
    refine fx_callV (Mc := m_X4_isMember) (as := []) (cs := [4]) (r := (some a0)) (f_clsC inf_X4 qs56 f_cls0) bm_X4_isMember q1737 q1739 (Nat.le_of_ble_eq_true rfl) dX4_changes_36 h (fun b h => mt_X4_isMember (fx_k2i h (fun v10 σ11 h => ?_) (fun q σ' h => h.elim)))
    refine am_if_eq (tgt := 61) dX4_changes_39 (by decide) (fun c => ?_) (fun c => ?_)
    · have h := h.1 c
      refine am_aloadr_n (x := some a0) dX4_changes_61 rfl rfl ?_
      refine fx_callV (Mc := m_X4_edit) (as := []) (cs := [4]) (r := (some a0)) (f_clsC inf_X4 qs76 f_cls0) bm_X4_edit q2160 q2162 (Nat.le_of_ble_eq_true rfl) dX4_changes_62 h (fun b h => mt_X4_edit (fx_k2r h (fun v14 σ15 h => ?_) (fun q σ' h => am_xout (by decide +kernel) h)))
      refine fx_callV (Mc := m_X7_add) (as := [va_rf v14]) (cs := [7]) (r := v9) (f_clsC inf_X7 q626 f_cls0) bm_X7_add q1724 q625 (Nat.le_of_ble_eq_true rfl) dX4_changes_65 h (fun b h => mt_X7_add (fx_k2v h (fun σ19 h => ?_) (fun q σ' h => h.elim)))
      refine am_goto (tgt := 22) dX4_changes_68 (by decide) ?_
      exact am_lss h rfl
    · have h := h.2 c
      refine fx_new inf_X30 q2137 q2138 q208 dX4_changes_42 h (fun n22 σ23 h => ?_)
      refine am_dup dX4_changes_45 (am_rf_cat _) ?_
      refine am_aloadr_n (x := some a0) dX4_changes_46 rfl rfl ?_
      refine am_null dX4_changes_47 ?_
      refine am_null dX4_changes_48 ?_
      refine fx_callV (Mc := m_X4_member) (as := [va_rf none, va_rf none]) (cs := [4]) (r := (some a0)) (f_clsC inf_X4 qs57 f_cls0) bm_X4_member q1745 q1747 (Nat.le_of_ble_eq_true rfl) dX4_changes_49 h (fun b h => mt_X4_member (fx_k2r h (fun v24 σ25 h => ?_) (fun q σ' h => am_xout (by decide +kernel) h)))
      refine am_iconst (v := (-1)) dX4_changes_52 (by decide) ?_
      refine am_iconst (v := (-1)) dX4_changes_53 (by decide) ?_
      refine am_null dX4_changes_54 ?_
      refine fx_callI (Mc := m_X30_init) (as := [va_rf v24, .int (-1), .int (-1), va_rf none]) bm_X30_init q2139 q2140 rfl rfl (Nat.le_of_ble_eq_true rfl) dX4_changes_55 (mt_X30_init (fx_k2v h (fun σ29 h => ?_) (fun q σ' h => h.elim)))
      refine am_goto (tgt := 65) dX4_changes_58 (by decide) ?_
      refine fx_callV (Mc := m_X7_add) (as := [va_rf (some n22)]) (cs := [7]) (r := v9) (f_clsC inf_X7 q626 f_cls0) bm_X7_add q1724 q625 (Nat.le_of_ble_eq_true rfl) dX4_changes_65 h (fun b h => mt_X7_add (fx_k2v h (fun σ33 h => ?_) (fun q σ' h => h.elim)))
      refine am_goto (tgt := 22) dX4_changes_68 (by decide) ?_
      exact am_lss h rfl
theorem W_X4_edit_f {G : am_G} {d : Nat} {a0 : Nat} {σ : am_S} {Q : Option Nat → am_S → Prop} {E : Nat → am_S → Prop} (h : f_o σ (some a0) [4] (fun b => W_X4_isWord G d b (some (am_sk G 20)) σ (fun v1 σ2 => f_o σ2 (some a0) [4] (fun b => W_X4_isWord G d b (some (am_sk G 21)) σ2 (fun v5 σ6 => ((¬ v1 = 0 → B_X4_edit_39 G (d + 1) a0 v1 v5 σ6 Q E) ∧ (v1 = 0 → ((¬ v5 = 0 → B_X4_edit_39 G (d + 1) a0 v1 v5 σ6 Q E) ∧ (v5 = 0 → f_o σ6 (some a0) [4] (fun b => W_X4_isWord G d b (some (am_sk G 18)) σ6 (fun v9 σ10 => ((¬ v9 = 0 → B_X4_edit_39 G (d + 1) a0 v1 v5 σ10 Q E) ∧ (v9 = 0 → f_o σ10 (some a0) [4] (fun b => W_X4_bad G d b σ10 (fun v13 σ14 => f_o σ14 v13 [3] (fun q => E q σ14)))))))))))))))) : W_X4_edit G (d + 1) a0 σ Q E := by
  unfold W_X4_edit
  refine am_aloadr_n (x := some a0) dX4_edit_0 rfl rfl ?_
  refine am_ldcwS (i := 20) rfl q2164 dX4_edit_1 ?_
  refine fx_callV (Mc := m_X4_isWord) (as := [va_rf (some (am_sk G 20))]) (cs := [4]) (r := (some a0)) (f_clsC inf_X4 qs51 f_cls0) bm_X4_isWord q1710 q1712 (Nat.le_of_ble_eq_true rfl) dX4_edit_4 h (fun b h => mt_X4_isWord (fx_k2i h (fun v1 σ2 h => ?_) (fun q σ' h => h.elim)))
  refine am_istore_n (L' := [(2, .int v1), (0, va_rf (some a0))]) dX4_edit_7 rfl (Nat.le_of_ble_eq_true rfl) rfl ?_
  refine am_aloadr_n (x := some a0) dX4_edit_8 rfl rfl ?_
  refine am_ldcwS (i := 21) rfl q2165 dX4_edit_9 ?_
  refine fx_callV (Mc := m_X4_isWord) (as := [va_rf (some (am_sk G 21))]) (cs := [4]) (r := (some a0)) (f_clsC inf_X4 qs51 f_cls0) bm_X4_isWord q1710 q1712 (Nat.le_of_ble_eq_true rfl) dX4_edit_12 h (fun b h => mt_X4_isWord (fx_k2i h (fun v5 σ6 h => ?_) (fun q σ' h => h.elim)))
  refine am_istore_n (L' := [(4, .int v5), (2, .int v1), (0, va_rf (some a0))]) dX4_edit_15 rfl (Nat.le_of_ble_eq_true rfl) rfl ?_
  refine am_iload_n (x := v1) dX4_edit_16 rfl rfl ?_
  refine am_if_ne (tgt := 39) dX4_edit_17 (by decide) (fun c => ?_) (fun c => ?_)
  · have h := h.1 c
    exact am_lss h rfl
  · have h := h.2 c
    refine am_iload_n (x := v5) dX4_edit_20 rfl rfl ?_
    refine am_if_ne (tgt := 39) dX4_edit_21 (by decide) (fun c => ?_) (fun c => ?_)
    · have h := h.1 c
      exact am_lss h rfl
    · have h := h.2 c
      refine am_aloadr_n (x := some a0) dX4_edit_24 rfl rfl ?_
      refine am_ldcwS (i := 18) rfl q2166 dX4_edit_25 ?_
      refine fx_callV (Mc := m_X4_isWord) (as := [va_rf (some (am_sk G 18))]) (cs := [4]) (r := (some a0)) (f_clsC inf_X4 qs51 f_cls0) bm_X4_isWord q1710 q1712 (Nat.le_of_ble_eq_true rfl) dX4_edit_28 h (fun b h => mt_X4_isWord (fx_k2i h (fun v9 σ10 h => ?_) (fun q σ' h => h.elim)))
      refine am_if_ne (tgt := 39) dX4_edit_31 (by decide) (fun c => ?_) (fun c => ?_)
      · have h := h.1 c
        exact am_lss h rfl
      · have h := h.2 c
        refine am_aloadr_n (x := some a0) dX4_edit_34 rfl rfl ?_
        refine fx_callV (Mc := m_X4_bad) (as := []) (cs := [4]) (r := (some a0)) (f_clsC inf_X4 qs46 f_cls0) bm_X4_bad q1682 q1684 (Nat.le_of_ble_eq_true rfl) dX4_edit_35 h (fun b h => mt_X4_bad (fx_k2r h (fun v13 σ14 h => ?_) (fun q σ' h => h.elim)))
        exact fx_throw (cs := [3]) dX4_edit_38 h (fun q h => am_xout (by decide +kernel) h)
theorem B_X4_edit_39_f {G : am_G} {d : Nat} {a0 : Nat} {x1 : Int32} {x2 : Int32} {σ : am_S} {Q : Option Nat → am_S → Prop} {E : Nat → am_S → Prop} (h : f_o σ (some a0) [4] (fun b => W_X4_next G d b σ (fun σ2 => f_o σ2 (some a0) [4] (fun b => W_X4_takesName G d b σ2 (fun v5 σ6 => ((x1 = 0 → ((x2 = 0 → B_X4_edit_74 G (d + 1) a0 v5 (-1) none σ6 Q E) ∧ (¬ x2 = 0 → f_o σ6 (some a0) [4] (fun b => W_X4_worth G d b σ6 (fun v9 σ10 => B_X4_edit_74 G (d + 1) a0 v5 (-1) v9 σ10 Q E) E)))) ∧ (¬ x1 = 0 → f_o σ6 (some a0) [4] (fun b => W_X4_takesName G d b σ6 (fun v13 σ14 => ((x2 = 0 → B_X4_edit_74 G (d + 1) a0 v5 v13 none σ14 Q E) ∧ (¬ x2 = 0 → f_o σ14 (some a0) [4] (fun b => W_X4_worth G d b σ14 (fun v17 σ18 => B_X4_edit_74 G (d + 1) a0 v5 v13 v17 σ18 Q E) E)))) E)))) E)))) : B_X4_edit_39 G (d + 1) a0 x1 x2 σ Q E := by
  unfold B_X4_edit_39
  refine am_aloadr_n (x := some a0) dX4_edit_39 rfl rfl ?_
  refine fx_callV (Mc := m_X4_next) (as := []) (cs := [4]) (r := (some a0)) (f_clsC inf_X4 qs36 f_cls0) bm_X4_next q1396 q1398 (Nat.le_of_ble_eq_true rfl) dX4_edit_40 h (fun b h => mt_X4_next (fx_k2v h (fun σ2 h => ?_) (fun q σ' h => h.elim)))
  refine am_aloadr_n (x := some a0) dX4_edit_43 rfl rfl ?_
  refine fx_callV (Mc := m_X4_takesName) (as := []) (cs := [4]) (r := (some a0)) (f_clsC inf_X4 qs44 f_cls0) bm_X4_takesName q1842 q1676 (Nat.le_of_ble_eq_true rfl) dX4_edit_44 h (fun b h => mt_X4_takesName (fx_k2i h (fun v5 σ6 h => ?_) (fun q σ' h => am_xout (by decide +kernel) h)))
  refine am_istore_n (L' := [(6, .int v5), (0, va_rf (some a0)), (2, .int x1), (4, .int x2)]) dX4_edit_47 rfl (Nat.le_of_ble_eq_true rfl) rfl ?_
  refine am_iload_n (x := x1) dX4_edit_48 rfl rfl ?_
  refine am_if_eq (tgt := 59) dX4_edit_49 (by decide) (fun c => ?_) (fun c => ?_)
  · have h := h.1 c
    refine am_iconst (v := (-1)) dX4_edit_59 (by decide) ?_
    refine am_istore (L' := [(8, .int (-1)), (6, .int v5), (0, va_rf (some a0)), (2, .int x1), (4, .int x2)]) dX4_edit_60 (Nat.le_of_ble_eq_true rfl) rfl ?_
    refine am_iload_n (x := x2) dX4_edit_62 rfl rfl ?_
    refine am_if_eq (tgt := 73) dX4_edit_63 (by decide) (fun c => ?_) (fun c => ?_)
    · have h := h.1 c
      refine am_null dX4_edit_73 ?_
      exact am_lss h rfl
    · have h := h.2 c
      refine am_aloadr_n (x := some a0) dX4_edit_66 rfl rfl ?_
      refine fx_callV (Mc := m_X4_worth) (as := []) (cs := [4]) (r := (some a0)) (f_clsC inf_X4 qs64 f_cls0) bm_X4_worth q1805 q1807 (Nat.le_of_ble_eq_true rfl) dX4_edit_67 h (fun b h => mt_X4_worth (fx_k2r h (fun v9 σ10 h => ?_) (fun q σ' h => am_xout (by decide +kernel) h)))
      refine am_goto (tgt := 74) dX4_edit_70 (by decide) ?_
      exact am_lss h rfl
  · have h := h.2 c
    refine am_aloadr_n (x := some a0) dX4_edit_52 rfl rfl ?_
    refine fx_callV (Mc := m_X4_takesName) (as := []) (cs := [4]) (r := (some a0)) (f_clsC inf_X4 qs44 f_cls0) bm_X4_takesName q1842 q1676 (Nat.le_of_ble_eq_true rfl) dX4_edit_53 h (fun b h => mt_X4_takesName (fx_k2i h (fun v13 σ14 h => ?_) (fun q σ' h => am_xout (by decide +kernel) h)))
    refine am_goto (tgt := 60) dX4_edit_56 (by decide) ?_
    refine am_istore (L' := [(8, .int v13), (6, .int v5), (0, va_rf (some a0)), (2, .int x1), (4, .int x2)]) dX4_edit_60 (Nat.le_of_ble_eq_true rfl) rfl ?_
    refine am_iload_n (x := x2) dX4_edit_62 rfl rfl ?_
    refine am_if_eq (tgt := 73) dX4_edit_63 (by decide) (fun c => ?_) (fun c => ?_)
    · have h := h.1 c
      refine am_null dX4_edit_73 ?_
      exact am_lss h rfl
    · have h := h.2 c
      refine am_aloadr_n (x := some a0) dX4_edit_66 rfl rfl ?_
      refine fx_callV (Mc := m_X4_worth) (as := []) (cs := [4]) (r := (some a0)) (f_clsC inf_X4 qs64 f_cls0) bm_X4_worth q1805 q1807 (Nat.le_of_ble_eq_true rfl) dX4_edit_67 h (fun b h => mt_X4_worth (fx_k2r h (fun v17 σ18 h => ?_) (fun q σ' h => am_xout (by decide +kernel) h)))
      refine am_goto (tgt := 74) dX4_edit_70 (by decide) ?_
      exact am_lss h rfl
theorem B_X4_edit_74_f {G : am_G} {d : Nat} {a0 : Nat} {x3 : Int32} {x4 : Int32} {s0 : Option Nat} {σ : am_S} {Q : Option Nat → am_S → Prop} {E : Nat → am_S → Prop} (h : f_o σ (some a0) [4] (fun b => W_X4_needs G d b 59 σ (fun σ2 => f_new G σ2 27 4 tyX30 (fun n5 σ6 => W_X30_init G d n5 none x3 x4 s0 σ6 (fun σ8 => Q (some n5) σ8))) E)) : B_X4_edit_74 G (d + 1) a0 x3 x4 s0 σ Q E := by
  unfold B_X4_edit_74
  refine am_astore (x := s0) (L' := [(10, va_rf s0), (0, va_rf (some a0)), (6, .int x3), (8, .int x4)]) dX4_edit_74 (Nat.le_of_ble_eq_true rfl) rfl ?_
  refine am_aloadr_n (x := some a0) dX4_edit_76 rfl rfl ?_
  refine am_bipush (v := 59) dX4_edit_77 (by decide) ?_
  refine fx_callV (Mc := m_X4_needs) (as := [.int 59]) (cs := [4]) (r := (some a0)) (f_clsC inf_X4 qs53 f_cls0) bm_X4_needs q1725 q1727 (Nat.le_of_ble_eq_true rfl) dX4_edit_79 h (fun b h => mt_X4_needs (fx_k2v h (fun σ2 h => ?_) (fun q σ' h => am_xout (by decide +kernel) h)))
  refine fx_new inf_X30 q2137 q2138 q208 dX4_edit_82 h (fun n5 σ6 h => ?_)
  refine am_dup dX4_edit_85 (am_rf_cat _) ?_
  refine am_null dX4_edit_86 ?_
  refine am_iload_n (x := x3) dX4_edit_87 rfl rfl ?_
  refine am_iload (x := x4) dX4_edit_88 rfl ?_
  refine am_aloadr (x := s0) dX4_edit_90 rfl ?_
  refine fx_callI (Mc := m_X30_init) (as := [va_rf none, .int x3, .int x4, va_rf s0]) bm_X30_init q2139 q2140 rfl rfl (Nat.le_of_ble_eq_true rfl) dX4_edit_92 (mt_X30_init (fx_k2v h (fun σ8 h => ?_) (fun q σ' h => h.elim)))
  exact fx_aret rfl rfl dX4_edit_95 h
theorem W_X5_init_f {G : am_G} {d : Nat} {a0 : Nat} {σ : am_S} {Q : am_S → Prop} (h : W_J1_init G d a0 none none 0 0 σ (fun σ2 => Q σ2)) : W_X5_init G (d + 1) a0 σ Q := by
  unfold W_X5_init
  refine am_aloadr_n (x := some a0) dX5_init_0 rfl rfl ?_
  refine am_null dX5_init_1 ?_
  refine am_null dX5_init_2 ?_
  refine am_iconst (v := 0) dX5_init_3 (by decide) ?_
  refine am_iconst (v := 0) dX5_init_4 (by decide) ?_
  refine fx_callI (Mc := m_J1_init) (as := [va_rf none, va_rf none, .int 0, .int 0]) bm_J1_init q1216 q1127 rfl rfl (Nat.le_of_ble_eq_true rfl) dX5_init_5 (mt_J1_init (fx_k2v h (fun σ2 h => ?_) (fun q σ' h => h.elim)))
  exact am_vret rfl dX5_init_8 h
theorem W_X6_init_f {G : am_G} {d : Nat} {a0 : Nat} {σ : am_S} {Q : am_S → Prop} (h : f_na G σ 0 f_a0i 1000 (fun n1 σ2 => f_p σ2 (some a0) [6] 0 (va_rf (some n1)) (fun σ3 => f_na G σ3 4 f_a0j 40 (fun n4 σ5 => f_p σ5 (some a0) [6] 6 (va_rf (some n4)) (fun σ6 => f_na G σ6 4 f_a0j 22 (fun n7 σ8 => f_p σ8 (some a0) [6] 8 (va_rf (some n7)) (fun σ9 => f_p σ9 (some a0) [6] 14 (.int (-1)) (fun σ10 => f_na G σ10 0 f_a0i 48000 (fun n11 σ12 => f_p σ12 (some a0) [6] 15 (va_rf (some n11)) (fun σ13 => f_na G σ13 0 f_a0i 2307 (fun n14 σ15 => f_p σ15 (some a0) [6] 23 (va_rf (some n14)) (fun σ16 => f_p σ16 (some a0) [6] 28 (.int (-1)) (fun σ17 => f_p σ17 (some a0) [6] 29 (.int (-1)) (fun σ18 => f_p σ18 (some a0) [6] 30 (.int (-1)) (fun σ19 => f_na G σ19 0 f_a0i 6 (fun n20 σ21 => f_p σ21 (some a0) [6] 31 (va_rf (some n20)) (fun σ22 => f_na G σ22 0 f_a0i 6 (fun n23 σ24 => f_p σ24 (some a0) [6] 32 (va_rf (some n23)) (fun σ25 => f_na G σ25 3 f_a0i 40 (fun n26 σ27 => f_p σ27 (some a0) [6] 34 (va_rf (some n26)) (fun σ28 => f_na G σ28 0 f_a0i 40 (fun n29 σ30 => f_p σ30 (some a0) [6] 35 (va_rf (some n29)) (fun σ31 => f_na G σ31 0 f_a0i 1600 (fun n32 σ33 => f_p σ33 (some a0) [6] 36 (va_rf (some n32)) (fun σ34 => f_na G σ34 0 f_a0i 1600 (fun n35 σ36 => f_p σ36 (some a0) [6] 37 (va_rf (some n35)) (fun σ37 => f_na G σ37 3 f_a0i 1600 (fun n38 σ39 => f_p σ39 (some a0) [6] 38 (va_rf (some n38)) (fun σ40 => f_na G σ40 0 f_a0i 21 (fun n41 σ42 => f_p σ42 (some a0) [6] 43 (va_rf (some n41)) (fun σ43 => f_na G σ43 0 f_a0i 21 (fun n44 σ45 => f_p σ45 (some a0) [6] 44 (va_rf (some n44)) (fun σ46 => f_na G σ46 0 f_a0i 21 (fun n47 σ48 => f_p σ48 (some a0) [6] 45 (va_rf (some n47)) (fun σ49 => f_na G σ49 0 f_a0i 21 (fun n50 σ51 => f_p σ51 (some a0) [6] 46 (va_rf (some n50)) (fun σ52 => f_na G σ52 0 f_a0i 21 (fun n53 σ54 => f_p σ54 (some a0) [6] 47 (va_rf (some n53)) (fun σ55 => f_na G σ55 0 f_a0i 21 (fun n56 σ57 => f_p σ57 (some a0) [6] 48 (va_rf (some n56)) (fun σ58 => f_na G σ58 0 f_a0i 252 (fun n59 σ60 => f_p σ60 (some a0) [6] 49 (va_rf (some n59)) (fun σ61 => f_na G σ61 0 f_a0i 252 (fun n62 σ63 => f_p σ63 (some a0) [6] 50 (va_rf (some n62)) (fun σ64 => f_na G σ64 0 f_a0i 252 (fun n65 σ66 => f_p σ66 (some a0) [6] 51 (va_rf (some n65)) (fun σ67 => f_na G σ67 0 f_a0i 1200 (fun n68 σ69 => f_p σ69 (some a0) [6] 53 (va_rf (some n68)) (fun σ70 => f_na G σ70 0 f_a0i 40 (fun n71 σ72 => f_p σ72 (some a0) [6] 61 (va_rf (some n71)) (fun σ73 => f_na G σ73 0 f_a0i 50 (fun n74 σ75 => f_p σ75 (some a0) [6] 62 (va_rf (some n74)) (fun σ76 => f_na G σ76 0 f_a0i 50 (fun n77 σ78 => f_p σ78 (some a0) [6] 63 (va_rf (some n77)) (fun σ79 => f_na G σ79 0 f_a0i 50 (fun n80 σ81 => f_p σ81 (some a0) [6] 64 (va_rf (some n80)) (fun σ82 => f_na G σ82 0 f_a0i 50 (fun n83 σ84 => f_p σ84 (some a0) [6] 65 (va_rf (some n83)) (fun σ85 => f_na G σ85 3 f_a0i 10 (fun n86 σ87 => f_p σ87 (some a0) [6] 67 (va_rf (some n86)) (fun σ88 => f_na G σ88 3 f_a0i 10 (fun n89 σ90 => f_p σ90 (some a0) [6] 68 (va_rf (some n89)) (fun σ91 => f_na G σ91 3 f_a0i 10 (fun n92 σ93 => f_p σ93 (some a0) [6] 69 (va_rf (some n92)) (fun σ94 => f_na G σ94 0 f_a0i 10 (fun n95 σ96 => f_p σ96 (some a0) [6] 70 (va_rf (some n95)) (fun σ97 => f_na G σ97 0 f_a0i 10 (fun n98 σ99 => f_p σ99 (some a0) [6] 71 (va_rf (some n98)) (fun σ100 => f_na G σ100 0 f_a0i 10 (fun n101 σ102 => f_p σ102 (some a0) [6] 72 (va_rf (some n101)) (fun σ103 => f_na G σ103 0 f_a0i 10 (fun n104 σ105 => f_p σ105 (some a0) [6] 73 (va_rf (some n104)) (fun σ106 => f_na G σ106 0 f_a0i 10 (fun n107 σ108 => f_p σ108 (some a0) [6] 74 (va_rf (some n107)) (fun σ109 => f_na G σ109 0 f_a0i 10 (fun n110 σ111 => f_p σ111 (some a0) [6] 75 (va_rf (some n110)) (fun σ112 => f_na G σ112 0 f_a0i 10 (fun n113 σ114 => f_p σ114 (some a0) [6] 76 (va_rf (some n113)) (fun σ115 => f_na G σ115 0 f_a0i 10 (fun n116 σ117 => f_p σ117 (some a0) [6] 77 (va_rf (some n116)) (fun σ118 => f_na G σ118 0 f_a0i 10 (fun n119 σ120 => f_p σ120 (some a0) [6] 78 (va_rf (some n119)) (fun σ121 => f_na G σ121 0 f_a0i 120 (fun n122 σ123 => f_p σ123 (some a0) [6] 79 (va_rf (some n122)) (fun σ124 => f_na G σ124 0 f_a0i 120 (fun n125 σ126 => f_p σ126 (some a0) [6] 80 (va_rf (some n125)) (fun σ127 => f_na G σ127 0 f_a0i 120 (fun n128 σ129 => f_p σ129 (some a0) [6] 81 (va_rf (some n128)) (fun σ130 => f_p σ130 (some a0) [6] 83 (.int (-1)) (fun σ131 => f_p σ131 (some a0) [6] 84 (.int (-1)) (fun σ132 => f_na G σ132 0 f_a0i 1600 (fun n133 σ134 => f_p σ134 (some a0) [6] 85 (va_rf (some n133)) (fun σ135 => f_na G σ135 0 f_a0i 1600 (fun n136 σ137 => f_p σ137 (some a0) [6] 86 (va_rf (some n136)) (fun σ138 => f_na G σ138 0 f_a0i 1600 (fun n139 σ140 => f_p σ140 (some a0) [6] 87 (va_rf (some n139)) (fun σ141 => f_na G σ141 3 f_a0i 1600 (fun n142 σ143 => f_p σ143 (some a0) [6] 88 (va_rf (some n142)) (fun σ144 => f_na G σ144 3 f_a0i 1600 (fun n145 σ146 => f_p σ146 (some a0) [6] 89 (va_rf (some n145)) (fun σ147 => f_na G σ147 0 f_a0i 40 (fun n148 σ149 => f_p σ149 (some a0) [6] 90 (va_rf (some n148)) (fun σ150 => f_na G σ150 0 f_a0i 40 (fun n151 σ152 => f_p σ152 (some a0) [6] 91 (va_rf (some n151)) (fun σ153 => f_na G σ153 0 f_a0i 40 (fun n154 σ155 => f_p σ155 (some a0) [6] 92 (va_rf (some n154)) (fun σ156 => f_na G σ156 0 f_a0i 40 (fun n157 σ158 => f_p σ158 (some a0) [6] 93 (va_rf (some n157)) (fun σ159 => f_na G σ159 0 f_a0i 769 (fun n160 σ161 => f_p σ161 (some a0) [6] 94 (va_rf (some n160)) (fun σ162 => Q σ162))))))))))))))))))))))))))))))))))))))))))))))))))))))))))))))))))))))))))))))))))))))))))))))))))))))))))))))) : W_X6_init G (d + 1) a0 σ Q := by
  unfold W_X6_init
  refine am_aloadr_n (x := some a0) dX6_init_0 rfl rfl ?_
  refine am_objInit q2317 q304 q305 (Nat.le_of_ble_eq_true rfl) dX6_init_1 ?_
  refine am_aloadr_n (x := some a0) dX6_init_4 rfl rfl ?_
  refine am_sipush (v := 1000) dX6_init_5 (by decide) ?_
  refine fx_nai (atype := .int) (τ := 0) q281 rfl (fun N cA => rfl) dX6_init_8 h (fun n1 σ2 h => ?_)
  refine fx_p (k := 0) (v := va_rf (some n1)) (f_putC inf_X6 (by decide) (f_nra _ _) (f_fra _ _) q2319 (Or.inr ⟨rfl, rfl, rfl⟩) f_put0) dX6_init_10 h (fun σ3 h => ?_)
  refine am_aloadr_n (x := some a0) dX6_init_13 rfl rfl ?_
  refine am_bipush (v := 40) dX6_init_14 (by decide) ?_
  refine fx_naj (atype := .long) (τ := 4) q2605 rfl (fun N cA => rfl) dX6_init_16 h (fun n4 σ5 h => ?_)
  refine fx_p (k := 6) (v := va_rf (some n4)) (f_putC inf_X6 (by decide) (f_nra _ _) (f_fra _ _) q2325 (Or.inr ⟨rfl, rfl, rfl⟩) f_put0) dX6_init_18 h (fun σ6 h => ?_)
  refine am_aloadr_n (x := some a0) dX6_init_21 rfl rfl ?_
  refine am_bipush (v := 22) dX6_init_22 (by decide) ?_
  refine fx_naj (atype := .long) (τ := 4) q2605 rfl (fun N cA => rfl) dX6_init_24 h (fun n7 σ8 h => ?_)
  refine fx_p (k := 8) (v := va_rf (some n7)) (f_putC inf_X6 (by decide) (f_nra _ _) (f_fra _ _) q2327 (Or.inr ⟨rfl, rfl, rfl⟩) f_put0) dX6_init_26 h (fun σ9 h => ?_)
  refine am_aloadr_n (x := some a0) dX6_init_29 rfl rfl ?_
  refine am_iconst (v := (-1)) dX6_init_30 (by decide) ?_
  refine fx_p (k := 14) (v := .int (-1)) (f_putC inf_X6 (by decide) rfl rfl q2333 (Or.inl rfl) f_put0) dX6_init_31 h (fun σ10 h => ?_)
  refine am_aloadr_n (x := some a0) dX6_init_34 rfl rfl ?_
  refine am_ldc q2318 dX6_init_35 ?_
  refine fx_nai (atype := .int) (τ := 0) q281 rfl (fun N cA => rfl) dX6_init_37 h (fun n11 σ12 h => ?_)
  refine fx_p (k := 15) (v := va_rf (some n11)) (f_putC inf_X6 (by decide) (f_nra _ _) (f_fra _ _) q2334 (Or.inr ⟨rfl, rfl, rfl⟩) f_put0) dX6_init_39 h (fun σ13 h => ?_)
  refine am_aloadr_n (x := some a0) dX6_init_42 rfl rfl ?_
  refine am_sipush (v := 2307) dX6_init_43 (by decide) ?_
  refine fx_nai (atype := .int) (τ := 0) q281 rfl (fun N cA => rfl) dX6_init_46 h (fun n14 σ15 h => ?_)
  refine fx_p (k := 23) (v := va_rf (some n14)) (f_putC inf_X6 (by decide) (f_nra _ _) (f_fra _ _) q2342 (Or.inr ⟨rfl, rfl, rfl⟩) f_put0) dX6_init_48 h (fun σ16 h => ?_)
  refine am_aloadr_n (x := some a0) dX6_init_51 rfl rfl ?_
  refine am_iconst (v := (-1)) dX6_init_52 (by decide) ?_
  refine fx_p (k := 28) (v := .int (-1)) (f_putC inf_X6 (by decide) rfl rfl q2347 (Or.inl rfl) f_put0) dX6_init_53 h (fun σ17 h => ?_)
  refine am_aloadr_n (x := some a0) dX6_init_56 rfl rfl ?_
  refine am_iconst (v := (-1)) dX6_init_57 (by decide) ?_
  refine fx_p (k := 29) (v := .int (-1)) (f_putC inf_X6 (by decide) rfl rfl q2348 (Or.inl rfl) f_put0) dX6_init_58 h (fun σ18 h => ?_)
  refine am_aloadr_n (x := some a0) dX6_init_61 rfl rfl ?_
  refine am_iconst (v := (-1)) dX6_init_62 (by decide) ?_
  refine fx_p (k := 30) (v := .int (-1)) (f_putC inf_X6 (by decide) rfl rfl q2349 (Or.inl rfl) f_put0) dX6_init_63 h (fun σ19 h => ?_)
  refine am_aloadr_n (x := some a0) dX6_init_66 rfl rfl ?_
  refine am_bipush (v := 6) dX6_init_67 (by decide) ?_
  refine fx_nai (atype := .int) (τ := 0) q281 rfl (fun N cA => rfl) dX6_init_69 h (fun n20 σ21 h => ?_)
  refine fx_p (k := 31) (v := va_rf (some n20)) (f_putC inf_X6 (by decide) (f_nra _ _) (f_fra _ _) q2350 (Or.inr ⟨rfl, rfl, rfl⟩) f_put0) dX6_init_71 h (fun σ22 h => ?_)
  refine am_aloadr_n (x := some a0) dX6_init_74 rfl rfl ?_
  refine am_bipush (v := 6) dX6_init_75 (by decide) ?_
  refine fx_nai (atype := .int) (τ := 0) q281 rfl (fun N cA => rfl) dX6_init_77 h (fun n23 σ24 h => ?_)
  refine fx_p (k := 32) (v := va_rf (some n23)) (f_putC inf_X6 (by decide) (f_nra _ _) (f_fra _ _) q2351 (Or.inr ⟨rfl, rfl, rfl⟩) f_put0) dX6_init_79 h (fun σ25 h => ?_)
  refine am_aloadr_n (x := some a0) dX6_init_82 rfl rfl ?_
  refine am_bipush (v := 40) dX6_init_83 (by decide) ?_
  refine fx_nai (atype := .boolean) (τ := 3) q282 rfl (fun N cA => rfl) dX6_init_85 h (fun n26 σ27 h => ?_)
  refine fx_p (k := 34) (v := va_rf (some n26)) (f_putC inf_X6 (by decide) (f_nra _ _) (f_fra _ _) q2353 (Or.inr ⟨rfl, rfl, rfl⟩) f_put0) dX6_init_87 h (fun σ28 h => ?_)
  refine am_aloadr_n (x := some a0) dX6_init_90 rfl rfl ?_
  refine am_bipush (v := 40) dX6_init_91 (by decide) ?_
  refine fx_nai (atype := .int) (τ := 0) q281 rfl (fun N cA => rfl) dX6_init_93 h (fun n29 σ30 h => ?_)
  refine fx_p (k := 35) (v := va_rf (some n29)) (f_putC inf_X6 (by decide) (f_nra _ _) (f_fra _ _) q2354 (Or.inr ⟨rfl, rfl, rfl⟩) f_put0) dX6_init_95 h (fun σ31 h => ?_)
  refine am_aloadr_n (x := some a0) dX6_init_98 rfl rfl ?_
  refine am_sipush (v := 1600) dX6_init_99 (by decide) ?_
  refine fx_nai (atype := .int) (τ := 0) q281 rfl (fun N cA => rfl) dX6_init_102 h (fun n32 σ33 h => ?_)
  refine fx_p (k := 36) (v := va_rf (some n32)) (f_putC inf_X6 (by decide) (f_nra _ _) (f_fra _ _) q2355 (Or.inr ⟨rfl, rfl, rfl⟩) f_put0) dX6_init_104 h (fun σ34 h => ?_)
  refine am_aloadr_n (x := some a0) dX6_init_107 rfl rfl ?_
  refine am_sipush (v := 1600) dX6_init_108 (by decide) ?_
  refine fx_nai (atype := .int) (τ := 0) q281 rfl (fun N cA => rfl) dX6_init_111 h (fun n35 σ36 h => ?_)
  refine fx_p (k := 37) (v := va_rf (some n35)) (f_putC inf_X6 (by decide) (f_nra _ _) (f_fra _ _) q2356 (Or.inr ⟨rfl, rfl, rfl⟩) f_put0) dX6_init_113 h (fun σ37 h => ?_)
  refine am_aloadr_n (x := some a0) dX6_init_116 rfl rfl ?_
  refine am_sipush (v := 1600) dX6_init_117 (by decide) ?_
  refine fx_nai (atype := .boolean) (τ := 3) q282 rfl (fun N cA => rfl) dX6_init_120 h (fun n38 σ39 h => ?_)
  refine fx_p (k := 38) (v := va_rf (some n38)) (f_putC inf_X6 (by decide) (f_nra _ _) (f_fra _ _) q2357 (Or.inr ⟨rfl, rfl, rfl⟩) f_put0) dX6_init_122 h (fun σ40 h => ?_)
  refine am_aloadr_n (x := some a0) dX6_init_125 rfl rfl ?_
  refine am_bipush (v := 21) dX6_init_126 (by decide) ?_
  refine fx_nai (atype := .int) (τ := 0) q281 rfl (fun N cA => rfl) dX6_init_128 h (fun n41 σ42 h => ?_)
  refine fx_p (k := 43) (v := va_rf (some n41)) (f_putC inf_X6 (by decide) (f_nra _ _) (f_fra _ _) q2362 (Or.inr ⟨rfl, rfl, rfl⟩) f_put0) dX6_init_130 h (fun σ43 h => ?_)
  refine am_aloadr_n (x := some a0) dX6_init_133 rfl rfl ?_
  refine am_bipush (v := 21) dX6_init_134 (by decide) ?_
  refine fx_nai (atype := .int) (τ := 0) q281 rfl (fun N cA => rfl) dX6_init_136 h (fun n44 σ45 h => ?_)
  refine fx_p (k := 44) (v := va_rf (some n44)) (f_putC inf_X6 (by decide) (f_nra _ _) (f_fra _ _) q2363 (Or.inr ⟨rfl, rfl, rfl⟩) f_put0) dX6_init_138 h (fun σ46 h => ?_)
  refine am_aloadr_n (x := some a0) dX6_init_141 rfl rfl ?_
  refine am_bipush (v := 21) dX6_init_142 (by decide) ?_
  refine fx_nai (atype := .int) (τ := 0) q281 rfl (fun N cA => rfl) dX6_init_144 h (fun n47 σ48 h => ?_)
  refine fx_p (k := 45) (v := va_rf (some n47)) (f_putC inf_X6 (by decide) (f_nra _ _) (f_fra _ _) q2364 (Or.inr ⟨rfl, rfl, rfl⟩) f_put0) dX6_init_146 h (fun σ49 h => ?_)
  refine am_aloadr_n (x := some a0) dX6_init_149 rfl rfl ?_
  refine am_bipush (v := 21) dX6_init_150 (by decide) ?_
  refine fx_nai (atype := .int) (τ := 0) q281 rfl (fun N cA => rfl) dX6_init_152 h (fun n50 σ51 h => ?_)
  refine fx_p (k := 46) (v := va_rf (some n50)) (f_putC inf_X6 (by decide) (f_nra _ _) (f_fra _ _) q2365 (Or.inr ⟨rfl, rfl, rfl⟩) f_put0) dX6_init_154 h (fun σ52 h => ?_)
  refine am_aloadr_n (x := some a0) dX6_init_157 rfl rfl ?_
  refine am_bipush (v := 21) dX6_init_158 (by decide) ?_
  refine fx_nai (atype := .int) (τ := 0) q281 rfl (fun N cA => rfl) dX6_init_160 h (fun n53 σ54 h => ?_)
  refine fx_p (k := 47) (v := va_rf (some n53)) (f_putC inf_X6 (by decide) (f_nra _ _) (f_fra _ _) q2366 (Or.inr ⟨rfl, rfl, rfl⟩) f_put0) dX6_init_162 h (fun σ55 h => ?_)
  refine am_aloadr_n (x := some a0) dX6_init_165 rfl rfl ?_
  refine am_bipush (v := 21) dX6_init_166 (by decide) ?_
  refine fx_nai (atype := .int) (τ := 0) q281 rfl (fun N cA => rfl) dX6_init_168 h (fun n56 σ57 h => ?_)
  refine fx_p (k := 48) (v := va_rf (some n56)) (f_putC inf_X6 (by decide) (f_nra _ _) (f_fra _ _) q2367 (Or.inr ⟨rfl, rfl, rfl⟩) f_put0) dX6_init_170 h (fun σ58 h => ?_)
  refine am_aloadr_n (x := some a0) dX6_init_173 rfl rfl ?_
  refine am_sipush (v := 252) dX6_init_174 (by decide) ?_
  refine fx_nai (atype := .int) (τ := 0) q281 rfl (fun N cA => rfl) dX6_init_177 h (fun n59 σ60 h => ?_)
  refine fx_p (k := 49) (v := va_rf (some n59)) (f_putC inf_X6 (by decide) (f_nra _ _) (f_fra _ _) q2368 (Or.inr ⟨rfl, rfl, rfl⟩) f_put0) dX6_init_179 h (fun σ61 h => ?_)
  refine am_aloadr_n (x := some a0) dX6_init_182 rfl rfl ?_
  refine am_sipush (v := 252) dX6_init_183 (by decide) ?_
  refine fx_nai (atype := .int) (τ := 0) q281 rfl (fun N cA => rfl) dX6_init_186 h (fun n62 σ63 h => ?_)
  refine fx_p (k := 50) (v := va_rf (some n62)) (f_putC inf_X6 (by decide) (f_nra _ _) (f_fra _ _) q2369 (Or.inr ⟨rfl, rfl, rfl⟩) f_put0) dX6_init_188 h (fun σ64 h => ?_)
  refine am_aloadr_n (x := some a0) dX6_init_191 rfl rfl ?_
  refine am_sipush (v := 252) dX6_init_192 (by decide) ?_
  refine fx_nai (atype := .int) (τ := 0) q281 rfl (fun N cA => rfl) dX6_init_195 h (fun n65 σ66 h => ?_)
  refine fx_p (k := 51) (v := va_rf (some n65)) (f_putC inf_X6 (by decide) (f_nra _ _) (f_fra _ _) q2370 (Or.inr ⟨rfl, rfl, rfl⟩) f_put0) dX6_init_197 h (fun σ67 h => ?_)
  refine am_aloadr_n (x := some a0) dX6_init_200 rfl rfl ?_
  refine am_sipush (v := 1200) dX6_init_201 (by decide) ?_
  refine fx_nai (atype := .int) (τ := 0) q281 rfl (fun N cA => rfl) dX6_init_204 h (fun n68 σ69 h => ?_)
  refine fx_p (k := 53) (v := va_rf (some n68)) (f_putC inf_X6 (by decide) (f_nra _ _) (f_fra _ _) q2372 (Or.inr ⟨rfl, rfl, rfl⟩) f_put0) dX6_init_206 h (fun σ70 h => ?_)
  refine am_aloadr_n (x := some a0) dX6_init_209 rfl rfl ?_
  refine am_bipush (v := 40) dX6_init_210 (by decide) ?_
  refine fx_nai (atype := .int) (τ := 0) q281 rfl (fun N cA => rfl) dX6_init_212 h (fun n71 σ72 h => ?_)
  refine fx_p (k := 61) (v := va_rf (some n71)) (f_putC inf_X6 (by decide) (f_nra _ _) (f_fra _ _) q2380 (Or.inr ⟨rfl, rfl, rfl⟩) f_put0) dX6_init_214 h (fun σ73 h => ?_)
  refine am_aloadr_n (x := some a0) dX6_init_217 rfl rfl ?_
  refine am_bipush (v := 50) dX6_init_218 (by decide) ?_
  refine fx_nai (atype := .int) (τ := 0) q281 rfl (fun N cA => rfl) dX6_init_220 h (fun n74 σ75 h => ?_)
  refine fx_p (k := 62) (v := va_rf (some n74)) (f_putC inf_X6 (by decide) (f_nra _ _) (f_fra _ _) q2381 (Or.inr ⟨rfl, rfl, rfl⟩) f_put0) dX6_init_222 h (fun σ76 h => ?_)
  refine am_aloadr_n (x := some a0) dX6_init_225 rfl rfl ?_
  refine am_bipush (v := 50) dX6_init_226 (by decide) ?_
  refine fx_nai (atype := .int) (τ := 0) q281 rfl (fun N cA => rfl) dX6_init_228 h (fun n77 σ78 h => ?_)
  refine fx_p (k := 63) (v := va_rf (some n77)) (f_putC inf_X6 (by decide) (f_nra _ _) (f_fra _ _) q2382 (Or.inr ⟨rfl, rfl, rfl⟩) f_put0) dX6_init_230 h (fun σ79 h => ?_)
  refine am_aloadr_n (x := some a0) dX6_init_233 rfl rfl ?_
  refine am_bipush (v := 50) dX6_init_234 (by decide) ?_
  refine fx_nai (atype := .int) (τ := 0) q281 rfl (fun N cA => rfl) dX6_init_236 h (fun n80 σ81 h => ?_)
  refine fx_p (k := 64) (v := va_rf (some n80)) (f_putC inf_X6 (by decide) (f_nra _ _) (f_fra _ _) q2383 (Or.inr ⟨rfl, rfl, rfl⟩) f_put0) dX6_init_238 h (fun σ82 h => ?_)
  refine am_aloadr_n (x := some a0) dX6_init_241 rfl rfl ?_
  refine am_bipush (v := 50) dX6_init_242 (by decide) ?_
  refine fx_nai (atype := .int) (τ := 0) q281 rfl (fun N cA => rfl) dX6_init_244 h (fun n83 σ84 h => ?_)
  refine fx_p (k := 65) (v := va_rf (some n83)) (f_putC inf_X6 (by decide) (f_nra _ _) (f_fra _ _) q2384 (Or.inr ⟨rfl, rfl, rfl⟩) f_put0) dX6_init_246 h (fun σ85 h => ?_)
  refine am_aloadr_n (x := some a0) dX6_init_249 rfl rfl ?_
  refine am_bipush (v := 10) dX6_init_250 (by decide) ?_
  refine fx_nai (atype := .boolean) (τ := 3) q282 rfl (fun N cA => rfl) dX6_init_252 h (fun n86 σ87 h => ?_)
  refine fx_p (k := 67) (v := va_rf (some n86)) (f_putC inf_X6 (by decide) (f_nra _ _) (f_fra _ _) q2386 (Or.inr ⟨rfl, rfl, rfl⟩) f_put0) dX6_init_254 h (fun σ88 h => ?_)
  refine am_aloadr_n (x := some a0) dX6_init_257 rfl rfl ?_
  refine am_bipush (v := 10) dX6_init_258 (by decide) ?_
  refine fx_nai (atype := .boolean) (τ := 3) q282 rfl (fun N cA => rfl) dX6_init_260 h (fun n89 σ90 h => ?_)
  refine fx_p (k := 68) (v := va_rf (some n89)) (f_putC inf_X6 (by decide) (f_nra _ _) (f_fra _ _) q2387 (Or.inr ⟨rfl, rfl, rfl⟩) f_put0) dX6_init_262 h (fun σ91 h => ?_)
  refine am_aloadr_n (x := some a0) dX6_init_265 rfl rfl ?_
  refine am_bipush (v := 10) dX6_init_266 (by decide) ?_
  refine fx_nai (atype := .boolean) (τ := 3) q282 rfl (fun N cA => rfl) dX6_init_268 h (fun n92 σ93 h => ?_)
  refine fx_p (k := 69) (v := va_rf (some n92)) (f_putC inf_X6 (by decide) (f_nra _ _) (f_fra _ _) q2388 (Or.inr ⟨rfl, rfl, rfl⟩) f_put0) dX6_init_270 h (fun σ94 h => ?_)
  refine am_aloadr_n (x := some a0) dX6_init_273 rfl rfl ?_
  refine am_bipush (v := 10) dX6_init_274 (by decide) ?_
  refine fx_nai (atype := .int) (τ := 0) q281 rfl (fun N cA => rfl) dX6_init_276 h (fun n95 σ96 h => ?_)
  refine fx_p (k := 70) (v := va_rf (some n95)) (f_putC inf_X6 (by decide) (f_nra _ _) (f_fra _ _) q2389 (Or.inr ⟨rfl, rfl, rfl⟩) f_put0) dX6_init_278 h (fun σ97 h => ?_)
  refine am_aloadr_n (x := some a0) dX6_init_281 rfl rfl ?_
  refine am_bipush (v := 10) dX6_init_282 (by decide) ?_
  refine fx_nai (atype := .int) (τ := 0) q281 rfl (fun N cA => rfl) dX6_init_284 h (fun n98 σ99 h => ?_)
  refine fx_p (k := 71) (v := va_rf (some n98)) (f_putC inf_X6 (by decide) (f_nra _ _) (f_fra _ _) q2390 (Or.inr ⟨rfl, rfl, rfl⟩) f_put0) dX6_init_286 h (fun σ100 h => ?_)
  refine am_aloadr_n (x := some a0) dX6_init_289 rfl rfl ?_
  refine am_bipush (v := 10) dX6_init_290 (by decide) ?_
  refine fx_nai (atype := .int) (τ := 0) q281 rfl (fun N cA => rfl) dX6_init_292 h (fun n101 σ102 h => ?_)
  refine fx_p (k := 72) (v := va_rf (some n101)) (f_putC inf_X6 (by decide) (f_nra _ _) (f_fra _ _) q2391 (Or.inr ⟨rfl, rfl, rfl⟩) f_put0) dX6_init_294 h (fun σ103 h => ?_)
  refine am_aloadr_n (x := some a0) dX6_init_297 rfl rfl ?_
  refine am_bipush (v := 10) dX6_init_298 (by decide) ?_
  refine fx_nai (atype := .int) (τ := 0) q281 rfl (fun N cA => rfl) dX6_init_300 h (fun n104 σ105 h => ?_)
  refine fx_p (k := 73) (v := va_rf (some n104)) (f_putC inf_X6 (by decide) (f_nra _ _) (f_fra _ _) q2392 (Or.inr ⟨rfl, rfl, rfl⟩) f_put0) dX6_init_302 h (fun σ106 h => ?_)
  refine am_aloadr_n (x := some a0) dX6_init_305 rfl rfl ?_
  refine am_bipush (v := 10) dX6_init_306 (by decide) ?_
  refine fx_nai (atype := .int) (τ := 0) q281 rfl (fun N cA => rfl) dX6_init_308 h (fun n107 σ108 h => ?_)
  refine fx_p (k := 74) (v := va_rf (some n107)) (f_putC inf_X6 (by decide) (f_nra _ _) (f_fra _ _) q2393 (Or.inr ⟨rfl, rfl, rfl⟩) f_put0) dX6_init_310 h (fun σ109 h => ?_)
  refine am_aloadr_n (x := some a0) dX6_init_313 rfl rfl ?_
  refine am_bipush (v := 10) dX6_init_314 (by decide) ?_
  refine fx_nai (atype := .int) (τ := 0) q281 rfl (fun N cA => rfl) dX6_init_316 h (fun n110 σ111 h => ?_)
  refine fx_p (k := 75) (v := va_rf (some n110)) (f_putC inf_X6 (by decide) (f_nra _ _) (f_fra _ _) q2394 (Or.inr ⟨rfl, rfl, rfl⟩) f_put0) dX6_init_318 h (fun σ112 h => ?_)
  refine am_aloadr_n (x := some a0) dX6_init_321 rfl rfl ?_
  refine am_bipush (v := 10) dX6_init_322 (by decide) ?_
  refine fx_nai (atype := .int) (τ := 0) q281 rfl (fun N cA => rfl) dX6_init_324 h (fun n113 σ114 h => ?_)
  refine fx_p (k := 76) (v := va_rf (some n113)) (f_putC inf_X6 (by decide) (f_nra _ _) (f_fra _ _) q2395 (Or.inr ⟨rfl, rfl, rfl⟩) f_put0) dX6_init_326 h (fun σ115 h => ?_)
  refine am_aloadr_n (x := some a0) dX6_init_329 rfl rfl ?_
  refine am_bipush (v := 10) dX6_init_330 (by decide) ?_
  refine fx_nai (atype := .int) (τ := 0) q281 rfl (fun N cA => rfl) dX6_init_332 h (fun n116 σ117 h => ?_)
  refine fx_p (k := 77) (v := va_rf (some n116)) (f_putC inf_X6 (by decide) (f_nra _ _) (f_fra _ _) q2396 (Or.inr ⟨rfl, rfl, rfl⟩) f_put0) dX6_init_334 h (fun σ118 h => ?_)
  refine am_aloadr_n (x := some a0) dX6_init_337 rfl rfl ?_
  refine am_bipush (v := 10) dX6_init_338 (by decide) ?_
  refine fx_nai (atype := .int) (τ := 0) q281 rfl (fun N cA => rfl) dX6_init_340 h (fun n119 σ120 h => ?_)
  refine fx_p (k := 78) (v := va_rf (some n119)) (f_putC inf_X6 (by decide) (f_nra _ _) (f_fra _ _) q2397 (Or.inr ⟨rfl, rfl, rfl⟩) f_put0) dX6_init_342 h (fun σ121 h => ?_)
  refine am_aloadr_n (x := some a0) dX6_init_345 rfl rfl ?_
  refine am_bipush (v := 120) dX6_init_346 (by decide) ?_
  refine fx_nai (atype := .int) (τ := 0) q281 rfl (fun N cA => rfl) dX6_init_348 h (fun n122 σ123 h => ?_)
  refine fx_p (k := 79) (v := va_rf (some n122)) (f_putC inf_X6 (by decide) (f_nra _ _) (f_fra _ _) q2398 (Or.inr ⟨rfl, rfl, rfl⟩) f_put0) dX6_init_350 h (fun σ124 h => ?_)
  refine am_aloadr_n (x := some a0) dX6_init_353 rfl rfl ?_
  refine am_bipush (v := 120) dX6_init_354 (by decide) ?_
  refine fx_nai (atype := .int) (τ := 0) q281 rfl (fun N cA => rfl) dX6_init_356 h (fun n125 σ126 h => ?_)
  refine fx_p (k := 80) (v := va_rf (some n125)) (f_putC inf_X6 (by decide) (f_nra _ _) (f_fra _ _) q2399 (Or.inr ⟨rfl, rfl, rfl⟩) f_put0) dX6_init_358 h (fun σ127 h => ?_)
  refine am_aloadr_n (x := some a0) dX6_init_361 rfl rfl ?_
  refine am_bipush (v := 120) dX6_init_362 (by decide) ?_
  refine fx_nai (atype := .int) (τ := 0) q281 rfl (fun N cA => rfl) dX6_init_364 h (fun n128 σ129 h => ?_)
  refine fx_p (k := 81) (v := va_rf (some n128)) (f_putC inf_X6 (by decide) (f_nra _ _) (f_fra _ _) q2400 (Or.inr ⟨rfl, rfl, rfl⟩) f_put0) dX6_init_366 h (fun σ130 h => ?_)
  refine am_aloadr_n (x := some a0) dX6_init_369 rfl rfl ?_
  refine am_iconst (v := (-1)) dX6_init_370 (by decide) ?_
  refine fx_p (k := 83) (v := .int (-1)) (f_putC inf_X6 (by decide) rfl rfl q2402 (Or.inl rfl) f_put0) dX6_init_371 h (fun σ131 h => ?_)
  refine am_aloadr_n (x := some a0) dX6_init_374 rfl rfl ?_
  refine am_iconst (v := (-1)) dX6_init_375 (by decide) ?_
  refine fx_p (k := 84) (v := .int (-1)) (f_putC inf_X6 (by decide) rfl rfl q2403 (Or.inl rfl) f_put0) dX6_init_376 h (fun σ132 h => ?_)
  refine am_aloadr_n (x := some a0) dX6_init_379 rfl rfl ?_
  refine am_sipush (v := 1600) dX6_init_380 (by decide) ?_
  refine fx_nai (atype := .int) (τ := 0) q281 rfl (fun N cA => rfl) dX6_init_383 h (fun n133 σ134 h => ?_)
  refine fx_p (k := 85) (v := va_rf (some n133)) (f_putC inf_X6 (by decide) (f_nra _ _) (f_fra _ _) q2404 (Or.inr ⟨rfl, rfl, rfl⟩) f_put0) dX6_init_385 h (fun σ135 h => ?_)
  refine am_aloadr_n (x := some a0) dX6_init_388 rfl rfl ?_
  refine am_sipush (v := 1600) dX6_init_389 (by decide) ?_
  refine fx_nai (atype := .int) (τ := 0) q281 rfl (fun N cA => rfl) dX6_init_392 h (fun n136 σ137 h => ?_)
  refine fx_p (k := 86) (v := va_rf (some n136)) (f_putC inf_X6 (by decide) (f_nra _ _) (f_fra _ _) q2405 (Or.inr ⟨rfl, rfl, rfl⟩) f_put0) dX6_init_394 h (fun σ138 h => ?_)
  refine am_aloadr_n (x := some a0) dX6_init_397 rfl rfl ?_
  refine am_sipush (v := 1600) dX6_init_398 (by decide) ?_
  refine fx_nai (atype := .int) (τ := 0) q281 rfl (fun N cA => rfl) dX6_init_401 h (fun n139 σ140 h => ?_)
  refine fx_p (k := 87) (v := va_rf (some n139)) (f_putC inf_X6 (by decide) (f_nra _ _) (f_fra _ _) q2406 (Or.inr ⟨rfl, rfl, rfl⟩) f_put0) dX6_init_403 h (fun σ141 h => ?_)
  refine am_aloadr_n (x := some a0) dX6_init_406 rfl rfl ?_
  refine am_sipush (v := 1600) dX6_init_407 (by decide) ?_
  refine fx_nai (atype := .boolean) (τ := 3) q282 rfl (fun N cA => rfl) dX6_init_410 h (fun n142 σ143 h => ?_)
  refine fx_p (k := 88) (v := va_rf (some n142)) (f_putC inf_X6 (by decide) (f_nra _ _) (f_fra _ _) q2407 (Or.inr ⟨rfl, rfl, rfl⟩) f_put0) dX6_init_412 h (fun σ144 h => ?_)
  refine am_aloadr_n (x := some a0) dX6_init_415 rfl rfl ?_
  refine am_sipush (v := 1600) dX6_init_416 (by decide) ?_
  refine fx_nai (atype := .boolean) (τ := 3) q282 rfl (fun N cA => rfl) dX6_init_419 h (fun n145 σ146 h => ?_)
  refine fx_p (k := 89) (v := va_rf (some n145)) (f_putC inf_X6 (by decide) (f_nra _ _) (f_fra _ _) q2408 (Or.inr ⟨rfl, rfl, rfl⟩) f_put0) dX6_init_421 h (fun σ147 h => ?_)
  refine am_aloadr_n (x := some a0) dX6_init_424 rfl rfl ?_
  refine am_bipush (v := 40) dX6_init_425 (by decide) ?_
  refine fx_nai (atype := .int) (τ := 0) q281 rfl (fun N cA => rfl) dX6_init_427 h (fun n148 σ149 h => ?_)
  refine fx_p (k := 90) (v := va_rf (some n148)) (f_putC inf_X6 (by decide) (f_nra _ _) (f_fra _ _) q2409 (Or.inr ⟨rfl, rfl, rfl⟩) f_put0) dX6_init_429 h (fun σ150 h => ?_)
  refine am_aloadr_n (x := some a0) dX6_init_432 rfl rfl ?_
  refine am_bipush (v := 40) dX6_init_433 (by decide) ?_
  refine fx_nai (atype := .int) (τ := 0) q281 rfl (fun N cA => rfl) dX6_init_435 h (fun n151 σ152 h => ?_)
  refine fx_p (k := 91) (v := va_rf (some n151)) (f_putC inf_X6 (by decide) (f_nra _ _) (f_fra _ _) q2410 (Or.inr ⟨rfl, rfl, rfl⟩) f_put0) dX6_init_437 h (fun σ153 h => ?_)
  refine am_aloadr_n (x := some a0) dX6_init_440 rfl rfl ?_
  refine am_bipush (v := 40) dX6_init_441 (by decide) ?_
  refine fx_nai (atype := .int) (τ := 0) q281 rfl (fun N cA => rfl) dX6_init_443 h (fun n154 σ155 h => ?_)
  refine fx_p (k := 92) (v := va_rf (some n154)) (f_putC inf_X6 (by decide) (f_nra _ _) (f_fra _ _) q2411 (Or.inr ⟨rfl, rfl, rfl⟩) f_put0) dX6_init_445 h (fun σ156 h => ?_)
  refine am_aloadr_n (x := some a0) dX6_init_448 rfl rfl ?_
  refine am_bipush (v := 40) dX6_init_449 (by decide) ?_
  refine fx_nai (atype := .int) (τ := 0) q281 rfl (fun N cA => rfl) dX6_init_451 h (fun n157 σ158 h => ?_)
  refine fx_p (k := 93) (v := va_rf (some n157)) (f_putC inf_X6 (by decide) (f_nra _ _) (f_fra _ _) q2412 (Or.inr ⟨rfl, rfl, rfl⟩) f_put0) dX6_init_453 h (fun σ159 h => ?_)
  refine am_aloadr_n (x := some a0) dX6_init_456 rfl rfl ?_
  refine am_sipush (v := 769) dX6_init_457 (by decide) ?_
  refine fx_nai (atype := .int) (τ := 0) q281 rfl (fun N cA => rfl) dX6_init_460 h (fun n160 σ161 h => ?_)
  refine fx_p (k := 94) (v := va_rf (some n160)) (f_putC inf_X6 (by decide) (f_nra _ _) (f_fra _ _) q2413 (Or.inr ⟨rfl, rfl, rfl⟩) f_put0) dX6_init_462 h (fun σ162 h => ?_)
  exact am_vret rfl dX6_init_465 h
theorem W_X7_init_f {G : am_G} {d : Nat} {a0 : Nat} {σ : am_S} {Q : am_S → Prop} (h : f_new G σ 33 3 tyJ14 (fun n1 σ2 => W_J14_init G d n1 σ2 (fun σ4 => f_p σ4 (some a0) [7] 0 (va_rf (some n1)) (fun σ7 => Q σ7)))) : W_X7_init G (d + 1) a0 σ Q := by
  unfold W_X7_init
  refine am_aloadr_n (x := some a0) dX7_init_0 rfl rfl ?_
  refine am_objInit q519 q304 q305 (Nat.le_of_ble_eq_true rfl) dX7_init_1 ?_
  refine am_aloadr_n (x := some a0) dX7_init_4 rfl rfl ?_
  refine fx_new inf_J14 q520 q521 q184 dX7_init_5 h (fun n1 σ2 h => ?_)
  refine am_dup dX7_init_8 (am_rf_cat _) ?_
  refine fx_callI (Mc := m_J14_init) (as := []) bm_J14_init q522 q523 rfl rfl (Nat.le_of_ble_eq_true rfl) dX7_init_9 (mt_J14_init (fx_k2v h (fun σ4 h => ?_) (fun q σ' h => h.elim)))
  refine fx_p (k := 0) (v := va_rf (some n1)) (f_putC inf_X7 (by decide) (f_nrf _ _) (f_frf _ _) q546 (Or.inr ⟨rfl, rfl, rfl⟩) f_put0) dX7_init_12 h (fun σ7 h => ?_)
  exact am_vret rfl dX7_init_15 h
theorem W_X7_add_f {G : am_G} {d : Nat} {a0 : Nat} {a1 : Option Nat} {σ : am_S} {Q : am_S → Prop} (h : f_gr σ (some a0) [7] 0 (fun v1 => f_o σ v1 [33] (fun b => W_J14_add G d b a1 σ (fun v2 σ3 => Q σ3)))) : W_X7_add G (d + 1) a0 a1 σ Q := by
  unfold W_X7_add
  refine am_aloadr_n (x := some a0) dX7_add_0 rfl rfl ?_
  refine fx_gr (k := 0) (f_fldC (ref := "PondHouse$Row") inf_X7 (by decide) q546 (Or.inl rfl) f_fld0) dX7_add_1 h (fun v1 h => ?_)
  refine am_aloadr_n (x := a1) dX7_add_4 rfl rfl ?_
  refine fx_callV (Mc := m_J14_add) (as := [va_rf a1]) (cs := [33]) (r := v1) (f_clsC inf_J14 q630 f_cls0) bm_J14_add q628 q629 (Nat.le_of_ble_eq_true rfl) dX7_add_5 h (fun b h => mt_J14_add (fx_k2i h (fun v2 σ3 h => ?_) (fun q σ' h => h.elim)))
  refine am_pop dX7_add_8 rfl ?_
  exact am_vret rfl dX7_add_9 h
theorem W_X7_size_f {G : am_G} {d : Nat} {a0 : Nat} {σ : am_S} {Q : Int32 → am_S → Prop} (h : f_gr σ (some a0) [7] 0 (fun v1 => f_o σ v1 [33] (fun b => W_J14_size G d b σ (fun v2 σ3 => Q v2 σ3)))) : W_X7_size G (d + 1) a0 σ Q := by
  unfold W_X7_size
  refine am_aloadr_n (x := some a0) dX7_size_0 rfl rfl ?_
  refine fx_gr (k := 0) (f_fldC (ref := "PondHouse$Row") inf_X7 (by decide) q546 (Or.inl rfl) f_fld0) dX7_size_1 h (fun v1 h => ?_)
  refine fx_callV (Mc := m_J14_size) (as := []) (cs := [33]) (r := v1) (f_clsC inf_J14 q715 f_cls0) bm_J14_size q713 q714 (Nat.le_of_ble_eq_true rfl) dX7_size_4 h (fun b h => mt_J14_size (fx_k2i h (fun v2 σ3 h => ?_) (fun q σ' h => h.elim)))
  exact am_iret rfl dX7_size_7 h
theorem W_X7_get_f {G : am_G} {d : Nat} {a0 : Nat} {a1 : Int32} {σ : am_S} {Q : Option Nat → am_S → Prop} (h : f_gr σ (some a0) [7] 0 (fun v1 => f_o σ v1 [33] (fun b => W_J14_get G d b a1 σ (fun v2 σ3 => Q v2 σ3)))) : W_X7_get G (d + 1) a0 a1 σ Q := by
  unfold W_X7_get
  refine am_aloadr_n (x := some a0) dX7_get_0 rfl rfl ?_
  refine fx_gr (k := 0) (f_fldC (ref := "PondHouse$Row") inf_X7 (by decide) q546 (Or.inl rfl) f_fld0) dX7_get_1 h (fun v1 h => ?_)
  refine am_iload_n (x := a1) dX7_get_4 rfl rfl ?_
  refine fx_callV (Mc := m_J14_get) (as := [.int a1]) (cs := [33]) (r := v1) (f_clsC inf_J14 q723 f_cls0) bm_J14_get q721 q722 (Nat.le_of_ble_eq_true rfl) dX7_get_5 h (fun b h => mt_J14_get (fx_k2r h (fun v2 σ3 h => ?_) (fun q σ' h => h.elim)))
  exact fx_aret rfl rfl dX7_get_8 h
theorem W_X7_drop_f {G : am_G} {d : Nat} {a0 : Nat} {a1 : Option Nat} {σ : am_S} {Q : am_S → Prop} (h : B_X7_drop_2 G (d + 1) a0 a1 0 σ Q) : W_X7_drop G (d + 1) a0 a1 σ Q := by
  unfold W_X7_drop
  refine am_iconst (v := 0) dX7_drop_0 (by decide) ?_
  refine am_istore_n (L' := [(4, .int 0), (0, va_rf (some a0)), (2, va_rf a1)]) dX7_drop_1 rfl (Nat.le_of_ble_eq_true rfl) rfl ?_
  exact am_lss h rfl
theorem B_X7_drop_2_f {G : am_G} {d : Nat} {a0 : Nat} {x1 : Option Nat} {x2 : Int32} {σ : am_S} {Q : am_S → Prop} (h : f_gr σ (some a0) [7] 0 (fun v1 => f_o σ v1 [33] (fun b => W_J14_get G d b x2 σ (fun v2 σ3 => ((v2 = x1 → f_gr σ3 (some a0) [7] 0 (fun v6 => f_o σ3 v6 [33] (fun b => W_J14_remove G d b x2 σ3 (fun v7 σ8 => Q σ8)))) ∧ (¬ v2 = x1 → B_X7_drop_2 G (d + 1) a0 x1 (x2 + 1) σ3 Q)))))) : B_X7_drop_2 G (d + 1) a0 x1 x2 σ Q := by
  unfold B_X7_drop_2
  refine am_aloadr_n (x := some a0) dX7_drop_2 rfl rfl ?_
  refine fx_gr (k := 0) (f_fldC (ref := "PondHouse$Row") inf_X7 (by decide) q546 (Or.inl rfl) f_fld0) dX7_drop_3 h (fun v1 h => ?_)
  refine am_iload_n (x := x2) dX7_drop_6 rfl rfl ?_
  refine fx_callV (Mc := m_J14_get) (as := [.int x2]) (cs := [33]) (r := v1) (f_clsC inf_J14 q723 f_cls0) bm_J14_get q721 q722 (Nat.le_of_ble_eq_true rfl) dX7_drop_7 h (fun b h => mt_J14_get (fx_k2r h (fun v2 σ3 h => ?_) (fun q σ' h => h.elim)))
  refine am_aloadr_n (x := x1) dX7_drop_10 rfl rfl ?_
  refine am_acmp_eq (rx := v2) (ry := x1) (tgt := 20) dX7_drop_11 (by decide) (fun c => ?_) (fun c => ?_)
  · have h := h.1 c
    refine am_aloadr_n (x := some a0) dX7_drop_20 rfl rfl ?_
    refine fx_gr (k := 0) (f_fldC (ref := "PondHouse$Row") inf_X7 (by decide) q546 (Or.inl rfl) f_fld0) dX7_drop_21 h (fun v6 h => ?_)
    refine am_iload_n (x := x2) dX7_drop_24 rfl rfl ?_
    refine fx_callV (Mc := m_J14_remove) (as := [.int x2]) (cs := [33]) (r := v6) (f_clsC inf_J14 q842 f_cls0) bm_J14_remove q840 q841 (Nat.le_of_ble_eq_true rfl) dX7_drop_25 h (fun b h => mt_J14_remove (fx_k2r h (fun v7 σ8 h => ?_) (fun q σ' h => h.elim)))
    refine am_pop dX7_drop_28 (am_rf_cat _) ?_
    exact am_vret rfl dX7_drop_29 h
  · have h := h.2 c
    refine am_iinc (x := x2) (v := (x2 + 1)) (L' := [(4, .int (x2 + 1)), (0, va_rf (some a0)), (2, va_rf x1)]) dX7_drop_14 rfl rfl (Nat.le_of_ble_eq_true rfl) rfl ?_
    refine am_goto (tgt := 2) dX7_drop_17 (by decide) ?_
    exact am_lss h rfl
theorem W_X8_init_f {G : am_G} {d : Nat} {a0 : Nat} {a1 : Option Nat} {σ : am_S} {Q : am_S → Prop} (h : f_gi σ a1 [21] 0 (fun v1 => f_gr σ a1 [21] 2 (fun v2 => ((¬ v2 = none → f_gr σ a1 [21] 2 (fun v3 => f_gi σ v3 [21] 0 (fun v4 => B_X8_init_23 G (d + 1) a0 a1 v4 v1 σ Q))) ∧ (v2 = none → B_X8_init_23 G (d + 1) a0 a1 (-1) v1 σ Q))))) : W_X8_init G (d + 1) a0 a1 σ Q := by
  unfold W_X8_init
  refine am_aloadr_n (x := some a0) dX8_init_0 rfl rfl ?_
  refine am_aloadr_n (x := a1) dX8_init_1 rfl rfl ?_
  refine fx_gi (k := 0) (f_fldC (ref := "PondHouse$Kind") inf_X23 (by decide) q906 (Or.inl rfl) f_fld0) dX8_init_2 h (fun v1 h => ?_)
  refine am_aloadr_n (x := a1) dX8_init_5 rfl rfl ?_
  refine fx_gr (k := 2) (f_fldC (ref := "PondHouse$Kind") inf_X23 (by decide) q911 (Or.inl rfl) f_fld0) dX8_init_6 h (fun v2 h => ?_)
  refine am_ifnonnullr (tgt := 16) dX8_init_9 (by decide) (fun c => ?_) (fun c => ?_)
  · have h := h.1 c
    refine am_aloadr_n (x := a1) dX8_init_16 rfl rfl ?_
    refine fx_gr (k := 2) (f_fldC (ref := "PondHouse$Kind") inf_X23 (by decide) q911 (Or.inl rfl) f_fld0) dX8_init_17 h (fun v3 h => ?_)
    refine fx_gi (k := 0) (f_fldC (ref := "PondHouse$Kind") inf_X23 (by decide) q906 (Or.inl rfl) f_fld0) dX8_init_20 h (fun v4 h => ?_)
    exact am_lss h rfl
  · have h := h.2 c
    refine am_iconst (v := (-1)) dX8_init_12 (by decide) ?_
    refine am_goto (tgt := 23) dX8_init_13 (by decide) ?_
    exact am_lss h rfl
theorem B_X8_init_23_f {G : am_G} {d : Nat} {a0 : Nat} {x1 : Option Nat} {s0 : Int32} {s1 : Int32} {σ : am_S} {Q : am_S → Prop} (h : W_X8_init_2 G d a0 s1 s0 σ (fun σ2 => f_gr σ2 x1 [21] 3 (fun v5 => f_al σ2 v5 0 (fun v6 => f_p σ2 (some a0) [8] 10 (.int v6) (fun σ7 => f_gr σ7 x1 [21] 5 (fun v8 => f_al σ7 v8 0 (fun v9 => f_p σ7 (some a0) [8] 11 (.int v9) (fun σ10 => f_gr σ10 x1 [21] 8 (fun v11 => f_al σ10 v11 8 (fun v12 => f_p σ10 (some a0) [8] 12 (.int v12) (fun σ13 => f_gr σ13 x1 [21] 3 (fun v14 => f_gr σ13 (some a0) [8] 3 (fun v15 => f_gi σ13 (some a0) [8] 10 (fun v16 => f_cpi σ13 v14 0 v15 0 v16 0 .int (fun σ17 => f_gr σ17 x1 [21] 3 (fun v18 => f_gr σ17 (some a0) [8] 5 (fun v19 => f_gi σ17 (some a0) [8] 10 (fun v20 => f_cpi σ17 v18 0 v19 0 v20 0 .int (fun σ21 => f_gr σ21 x1 [21] 4 (fun v22 => f_gr σ21 (some a0) [8] 4 (fun v23 => f_gi σ21 (some a0) [8] 10 (fun v24 => f_cpi σ21 v22 0 v23 0 v24 0 .int (fun σ25 => f_gr σ25 x1 [21] 5 (fun v26 => f_gr σ25 (some a0) [8] 6 (fun v27 => f_gi σ25 (some a0) [8] 11 (fun v28 => f_cpi σ25 v26 0 v27 0 v28 0 .int (fun σ29 => f_gr σ29 x1 [21] 6 (fun v30 => f_gr σ29 (some a0) [8] 7 (fun v31 => f_gi σ29 (some a0) [8] 11 (fun v32 => f_cpi σ29 v30 0 v31 0 v32 0 .int (fun σ33 => B_X8_init_140 G (d + 1) a0 x1 0 σ33 Q))))))))))))))))))))))))))))))) : B_X8_init_23 G (d + 1) a0 x1 s0 s1 σ Q := by
  unfold B_X8_init_23
  refine fx_callI (Mc := m_X8_init_2) (as := [.int s1, .int s0]) bm_X8_init_2 q555 q556 rfl rfl (Nat.le_of_ble_eq_true rfl) dX8_init_23 (mt_X8_init_2 (fx_k2v h (fun σ2 h => ?_) (fun q σ' h => h.elim)))
  refine am_aloadr_n (x := some a0) dX8_init_26 rfl rfl ?_
  refine am_aloadr_n (x := x1) dX8_init_27 rfl rfl ?_
  refine fx_gr (k := 3) (f_fldC (ref := "PondHouse$Kind") inf_X23 (by decide) q915 (Or.inl rfl) f_fld0) dX8_init_28 h (fun v5 h => ?_)
  refine fx_al (τ := 0) rfl dX8_init_31 h (fun v6 h => ?_)
  refine fx_p (k := 10) (v := .int v6) (f_putC inf_X8 (by decide) rfl rfl q589 (Or.inl rfl) f_put0) dX8_init_32 h (fun σ7 h => ?_)
  refine am_aloadr_n (x := some a0) dX8_init_35 rfl rfl ?_
  refine am_aloadr_n (x := x1) dX8_init_36 rfl rfl ?_
  refine fx_gr (k := 5) (f_fldC (ref := "PondHouse$Kind") inf_X23 (by decide) q920 (Or.inl rfl) f_fld0) dX8_init_37 h (fun v8 h => ?_)
  refine fx_al (τ := 0) rfl dX8_init_40 h (fun v9 h => ?_)
  refine fx_p (k := 11) (v := .int v9) (f_putC inf_X8 (by decide) rfl rfl q591 (Or.inl rfl) f_put0) dX8_init_41 h (fun σ10 h => ?_)
  refine am_aloadr_n (x := some a0) dX8_init_44 rfl rfl ?_
  refine am_aloadr_n (x := x1) dX8_init_45 rfl rfl ?_
  refine fx_gr (k := 8) (f_fldC (ref := "PondHouse$Kind") inf_X23 (by decide) q927 (Or.inl rfl) f_fld0) dX8_init_46 h (fun v11 h => ?_)
  refine fx_al (τ := 8) rfl dX8_init_49 h (fun v12 h => ?_)
  refine fx_p (k := 12) (v := .int v12) (f_putC inf_X8 (by decide) rfl rfl q593 (Or.inl rfl) f_put0) dX8_init_50 h (fun σ13 h => ?_)
  refine am_aloadr_n (x := x1) dX8_init_53 rfl rfl ?_
  refine fx_gr (k := 3) (f_fldC (ref := "PondHouse$Kind") inf_X23 (by decide) q915 (Or.inl rfl) f_fld0) dX8_init_54 h (fun v14 h => ?_)
  refine am_iconst (v := 0) dX8_init_57 (by decide) ?_
  refine am_aloadr_n (x := some a0) dX8_init_58 rfl rfl ?_
  refine fx_gr (k := 3) (f_fldC (ref := "PondHouse$Draft") inf_X8 (by decide) q573 (Or.inl rfl) f_fld0) dX8_init_59 h (fun v15 h => ?_)
  refine am_iconst (v := 0) dX8_init_62 (by decide) ?_
  refine am_aloadr_n (x := some a0) dX8_init_63 rfl rfl ?_
  refine fx_gi (k := 10) (f_fldC (ref := "PondHouse$Draft") inf_X8 (by decide) q589 (Or.inl rfl) f_fld0) dX8_init_64 h (fun v16 h => ?_)
  refine fx_cpi (τ := 0) q621 q623 q622 q177 rfl rfl (Nat.le_of_ble_eq_true rfl) dX8_init_67 h (fun σ17 h => ?_)
  refine am_aloadr_n (x := x1) dX8_init_70 rfl rfl ?_
  refine fx_gr (k := 3) (f_fldC (ref := "PondHouse$Kind") inf_X23 (by decide) q915 (Or.inl rfl) f_fld0) dX8_init_71 h (fun v18 h => ?_)
  refine am_iconst (v := 0) dX8_init_74 (by decide) ?_
  refine am_aloadr_n (x := some a0) dX8_init_75 rfl rfl ?_
  refine fx_gr (k := 5) (f_fldC (ref := "PondHouse$Draft") inf_X8 (by decide) q578 (Or.inl rfl) f_fld0) dX8_init_76 h (fun v19 h => ?_)
  refine am_iconst (v := 0) dX8_init_79 (by decide) ?_
  refine am_aloadr_n (x := some a0) dX8_init_80 rfl rfl ?_
  refine fx_gi (k := 10) (f_fldC (ref := "PondHouse$Draft") inf_X8 (by decide) q589 (Or.inl rfl) f_fld0) dX8_init_81 h (fun v20 h => ?_)
  refine fx_cpi (τ := 0) q621 q623 q622 q177 rfl rfl (Nat.le_of_ble_eq_true rfl) dX8_init_84 h (fun σ21 h => ?_)
  refine am_aloadr_n (x := x1) dX8_init_87 rfl rfl ?_
  refine fx_gr (k := 4) (f_fldC (ref := "PondHouse$Kind") inf_X23 (by decide) q918 (Or.inl rfl) f_fld0) dX8_init_88 h (fun v22 h => ?_)
  refine am_iconst (v := 0) dX8_init_91 (by decide) ?_
  refine am_aloadr_n (x := some a0) dX8_init_92 rfl rfl ?_
  refine fx_gr (k := 4) (f_fldC (ref := "PondHouse$Draft") inf_X8 (by decide) q576 (Or.inl rfl) f_fld0) dX8_init_93 h (fun v23 h => ?_)
  refine am_iconst (v := 0) dX8_init_96 (by decide) ?_
  refine am_aloadr_n (x := some a0) dX8_init_97 rfl rfl ?_
  refine fx_gi (k := 10) (f_fldC (ref := "PondHouse$Draft") inf_X8 (by decide) q589 (Or.inl rfl) f_fld0) dX8_init_98 h (fun v24 h => ?_)
  refine fx_cpi (τ := 0) q621 q623 q622 q177 rfl rfl (Nat.le_of_ble_eq_true rfl) dX8_init_101 h (fun σ25 h => ?_)
  refine am_aloadr_n (x := x1) dX8_init_104 rfl rfl ?_
  refine fx_gr (k := 5) (f_fldC (ref := "PondHouse$Kind") inf_X23 (by decide) q920 (Or.inl rfl) f_fld0) dX8_init_105 h (fun v26 h => ?_)
  refine am_iconst (v := 0) dX8_init_108 (by decide) ?_
  refine am_aloadr_n (x := some a0) dX8_init_109 rfl rfl ?_
  refine fx_gr (k := 6) (f_fldC (ref := "PondHouse$Draft") inf_X8 (by decide) q580 (Or.inl rfl) f_fld0) dX8_init_110 h (fun v27 h => ?_)
  refine am_iconst (v := 0) dX8_init_113 (by decide) ?_
  refine am_aloadr_n (x := some a0) dX8_init_114 rfl rfl ?_
  refine fx_gi (k := 11) (f_fldC (ref := "PondHouse$Draft") inf_X8 (by decide) q591 (Or.inl rfl) f_fld0) dX8_init_115 h (fun v28 h => ?_)
  refine fx_cpi (τ := 0) q621 q623 q622 q177 rfl rfl (Nat.le_of_ble_eq_true rfl) dX8_init_118 h (fun σ29 h => ?_)
  refine am_aloadr_n (x := x1) dX8_init_121 rfl rfl ?_
  refine fx_gr (k := 6) (f_fldC (ref := "PondHouse$Kind") inf_X23 (by decide) q923 (Or.inl rfl) f_fld0) dX8_init_122 h (fun v30 h => ?_)
  refine am_iconst (v := 0) dX8_init_125 (by decide) ?_
  refine am_aloadr_n (x := some a0) dX8_init_126 rfl rfl ?_
  refine fx_gr (k := 7) (f_fldC (ref := "PondHouse$Draft") inf_X8 (by decide) q582 (Or.inl rfl) f_fld0) dX8_init_127 h (fun v31 h => ?_)
  refine am_iconst (v := 0) dX8_init_130 (by decide) ?_
  refine am_aloadr_n (x := some a0) dX8_init_131 rfl rfl ?_
  refine fx_gi (k := 11) (f_fldC (ref := "PondHouse$Draft") inf_X8 (by decide) q591 (Or.inl rfl) f_fld0) dX8_init_132 h (fun v32 h => ?_)
  refine fx_cpi (τ := 0) q621 q623 q622 q177 rfl rfl (Nat.le_of_ble_eq_true rfl) dX8_init_135 h (fun σ33 h => ?_)
  refine am_iconst (v := 0) dX8_init_138 (by decide) ?_
  refine am_istore_n (L' := [(4, .int 0), (0, va_rf (some a0)), (2, va_rf x1)]) dX8_init_139 rfl (Nat.le_of_ble_eq_true rfl) rfl ?_
  exact am_lss h rfl
theorem B_X8_init_140_f {G : am_G} {d : Nat} {a0 : Nat} {x1 : Option Nat} {x2 : Int32} {σ : am_S} {Q : am_S → Prop} (h : f_gi σ (some a0) [8] 12 (fun v1 => ((v1 ≤ x2 → Q σ) ∧ (¬ v1 ≤ x2 → f_gr σ (some a0) [8] 8 (fun v2 => f_gr σ x1 [21] 8 (fun v3 => f_ar σ v3 8 x2 (fun v4 => f_gi σ v4 [22] 1 (fun v5 => f_si σ v2 0 x2 v5 (fun σ6 => f_gr σ6 (some a0) [8] 9 (fun v7 => f_gr σ6 x1 [21] 8 (fun v8 => f_ar σ6 v8 8 x2 (fun v9 => f_gr σ6 v9 [22] 2 (fun v10 => f_sr σ6 v7 10 [10] x2 v10 (fun σ11 => B_X8_init_140 G (d + 1) a0 x1 (x2 + 1) σ11 Q)))))))))))))) : B_X8_init_140 G (d + 1) a0 x1 x2 σ Q := by
  unfold B_X8_init_140
  refine am_iload_n (x := x2) dX8_init_140 rfl rfl ?_
  refine am_aloadr_n (x := some a0) dX8_init_141 rfl rfl ?_
  refine fx_gi (k := 12) (f_fldC (ref := "PondHouse$Draft") inf_X8 (by decide) q593 (Or.inl rfl) f_fld0) dX8_init_142 h (fun v1 h => ?_)
  refine am_icmp_ge (tgt := 184) dX8_init_145 (by decide) (fun c => ?_) (fun c => ?_)
  · have h := h.1 c
    exact am_vret rfl dX8_init_184 h
  · have h := h.2 c
    refine am_aloadr_n (x := some a0) dX8_init_148 rfl rfl ?_
    refine fx_gr (k := 8) (f_fldC (ref := "PondHouse$Draft") inf_X8 (by decide) q584 (Or.inl rfl) f_fld0) dX8_init_149 h (fun v2 h => ?_)
    refine am_iload_n (x := x2) dX8_init_152 rfl rfl ?_
    refine am_aloadr_n (x := x1) dX8_init_153 rfl rfl ?_
    refine fx_gr (k := 8) (f_fldC (ref := "PondHouse$Kind") inf_X23 (by decide) q927 (Or.inl rfl) f_fld0) dX8_init_154 h (fun v3 h => ?_)
    refine am_iload_n (x := x2) dX8_init_157 rfl rfl ?_
    refine fx_ar (τ := 8) rfl rfl dX8_init_158 h (fun v4 h => ?_)
    refine fx_gi (k := 1) (f_fldC (ref := "PondHouse$Body") inf_X24 (by decide) q893 (Or.inl rfl) f_fld0) dX8_init_159 h (fun v5 h => ?_)
    refine fx_si0 dX8_init_162 h (fun σ6 h => ?_)
    refine am_aloadr_n (x := some a0) dX8_init_163 rfl rfl ?_
    refine fx_gr (k := 9) (f_fldC (ref := "PondHouse$Draft") inf_X8 (by decide) q586 (Or.inl rfl) f_fld0) dX8_init_164 h (fun v7 h => ?_)
    refine am_iload_n (x := x2) dX8_init_167 rfl rfl ?_
    refine am_aloadr_n (x := x1) dX8_init_168 rfl rfl ?_
    refine fx_gr (k := 8) (f_fldC (ref := "PondHouse$Kind") inf_X23 (by decide) q927 (Or.inl rfl) f_fld0) dX8_init_169 h (fun v8 h => ?_)
    refine am_iload_n (x := x2) dX8_init_172 rfl rfl ?_
    refine fx_ar (τ := 8) rfl rfl dX8_init_173 h (fun v9 h => ?_)
    refine fx_gr (k := 2) (f_fldC (ref := "PondHouse$Body") inf_X24 (by decide) q896 (Or.inl rfl) f_fld0) dX8_init_174 h (fun v10 h => ?_)
    refine fx_sr (τ := 10) (E := "PondHouse$Block") (cs := [10]) (v := v10) rfl (f_clsC inf_X10 (Or.inl rfl) f_cls0) dX8_init_177 h (fun σ11 h => ?_)
    refine am_iinc (x := x2) (v := (x2 + 1)) (L' := [(4, .int (x2 + 1)), (0, va_rf (some a0)), (2, va_rf x1)]) dX8_init_178 rfl rfl (Nat.le_of_ble_eq_true rfl) rfl ?_
    refine am_goto (tgt := 140) dX8_init_181 (by decide) ?_
    exact am_lss h rfl
theorem W_X8_init_2_f {G : am_G} {d : Nat} {a0 : Nat} {a1 : Int32} {a2 : Int32} {σ : am_S} {Q : am_S → Prop} (h : f_na G σ 0 f_a0i 8 (fun n1 σ2 => f_p σ2 (some a0) [8] 3 (va_rf (some n1)) (fun σ3 => f_na G σ3 0 f_a0i 8 (fun n4 σ5 => f_p σ5 (some a0) [8] 4 (va_rf (some n4)) (fun σ6 => f_na G σ6 0 f_a0i 8 (fun n7 σ8 => f_p σ8 (some a0) [8] 5 (va_rf (some n7)) (fun σ9 => f_na G σ9 0 f_a0i 4 (fun n10 σ11 => f_p σ11 (some a0) [8] 6 (va_rf (some n10)) (fun σ12 => f_na G σ12 0 f_a0i 4 (fun n13 σ14 => f_p σ14 (some a0) [8] 7 (va_rf (some n13)) (fun σ15 => f_na G σ15 0 f_a0i 8 (fun n16 σ17 => f_p σ17 (some a0) [8] 8 (va_rf (some n16)) (fun σ18 => f_na G σ18 10 f_a0r 8 (fun n19 σ20 => f_p σ20 (some a0) [8] 9 (va_rf (some n19)) (fun σ21 => f_p σ21 (some a0) [8] 0 (.int a1) (fun σ22 => f_p σ22 (some a0) [8] 1 (.int a2) (fun σ23 => Q σ23))))))))))))))))) : W_X8_init_2 G (d + 1) a0 a1 a2 σ Q := by
  unfold W_X8_init_2
  refine am_aloadr_n (x := some a0) dX8_init_2_0 rfl rfl ?_
  refine am_objInit q558 q304 q305 (Nat.le_of_ble_eq_true rfl) dX8_init_2_1 ?_
  refine am_aloadr_n (x := some a0) dX8_init_2_4 rfl rfl ?_
  refine am_bipush (v := 8) dX8_init_2_5 (by decide) ?_
  refine fx_nai (atype := .int) (τ := 0) q281 rfl (fun N cA => rfl) dX8_init_2_7 h (fun n1 σ2 h => ?_)
  refine fx_p (k := 3) (v := va_rf (some n1)) (f_putC inf_X8 (by decide) (f_nra _ _) (f_fra _ _) q573 (Or.inr ⟨rfl, rfl, rfl⟩) f_put0) dX8_init_2_9 h (fun σ3 h => ?_)
  refine am_aloadr_n (x := some a0) dX8_init_2_12 rfl rfl ?_
  refine am_bipush (v := 8) dX8_init_2_13 (by decide) ?_
  refine fx_nai (atype := .int) (τ := 0) q281 rfl (fun N cA => rfl) dX8_init_2_15 h (fun n4 σ5 h => ?_)
  refine fx_p (k := 4) (v := va_rf (some n4)) (f_putC inf_X8 (by decide) (f_nra _ _) (f_fra _ _) q576 (Or.inr ⟨rfl, rfl, rfl⟩) f_put0) dX8_init_2_17 h (fun σ6 h => ?_)
  refine am_aloadr_n (x := some a0) dX8_init_2_20 rfl rfl ?_
  refine am_bipush (v := 8) dX8_init_2_21 (by decide) ?_
  refine fx_nai (atype := .int) (τ := 0) q281 rfl (fun N cA => rfl) dX8_init_2_23 h (fun n7 σ8 h => ?_)
  refine fx_p (k := 5) (v := va_rf (some n7)) (f_putC inf_X8 (by decide) (f_nra _ _) (f_fra _ _) q578 (Or.inr ⟨rfl, rfl, rfl⟩) f_put0) dX8_init_2_25 h (fun σ9 h => ?_)
  refine am_aloadr_n (x := some a0) dX8_init_2_28 rfl rfl ?_
  refine am_iconst (v := 4) dX8_init_2_29 (by decide) ?_
  refine fx_nai (atype := .int) (τ := 0) q281 rfl (fun N cA => rfl) dX8_init_2_30 h (fun n10 σ11 h => ?_)
  refine fx_p (k := 6) (v := va_rf (some n10)) (f_putC inf_X8 (by decide) (f_nra _ _) (f_fra _ _) q580 (Or.inr ⟨rfl, rfl, rfl⟩) f_put0) dX8_init_2_32 h (fun σ12 h => ?_)
  refine am_aloadr_n (x := some a0) dX8_init_2_35 rfl rfl ?_
  refine am_iconst (v := 4) dX8_init_2_36 (by decide) ?_
  refine fx_nai (atype := .int) (τ := 0) q281 rfl (fun N cA => rfl) dX8_init_2_37 h (fun n13 σ14 h => ?_)
  refine fx_p (k := 7) (v := va_rf (some n13)) (f_putC inf_X8 (by decide) (f_nra _ _) (f_fra _ _) q582 (Or.inr ⟨rfl, rfl, rfl⟩) f_put0) dX8_init_2_39 h (fun σ15 h => ?_)
  refine am_aloadr_n (x := some a0) dX8_init_2_42 rfl rfl ?_
  refine am_bipush (v := 8) dX8_init_2_43 (by decide) ?_
  refine fx_nai (atype := .int) (τ := 0) q281 rfl (fun N cA => rfl) dX8_init_2_45 h (fun n16 σ17 h => ?_)
  refine fx_p (k := 8) (v := va_rf (some n16)) (f_putC inf_X8 (by decide) (f_nra _ _) (f_fra _ _) q584 (Or.inr ⟨rfl, rfl, rfl⟩) f_put0) dX8_init_2_47 h (fun σ18 h => ?_)
  refine am_aloadr_n (x := some a0) dX8_init_2_50 rfl rfl ?_
  refine am_bipush (v := 8) dX8_init_2_51 (by decide) ?_
  refine fx_nar (τ := 10) q559 q560 rfl dX8_init_2_53 h (fun n19 σ20 h => ?_)
  refine fx_p (k := 9) (v := va_rf (some n19)) (f_putC inf_X8 (by decide) (f_nra _ _) (f_fra _ _) q586 (Or.inr ⟨rfl, rfl, rfl⟩) f_put0) dX8_init_2_56 h (fun σ21 h => ?_)
  refine am_aloadr_n (x := some a0) dX8_init_2_59 rfl rfl ?_
  refine am_iload_n (x := a1) dX8_init_2_60 rfl rfl ?_
  refine fx_p (k := 0) (v := .int a1) (f_putC inf_X8 (by decide) rfl rfl q562 (Or.inr ⟨rfl, rfl, rfl⟩) f_put0) dX8_init_2_61 h (fun σ22 h => ?_)
  refine am_aloadr_n (x := some a0) dX8_init_2_64 rfl rfl ?_
  refine am_iload_n (x := a2) dX8_init_2_65 rfl rfl ?_
  refine fx_p (k := 1) (v := .int a2) (f_putC inf_X8 (by decide) rfl rfl q564 (Or.inl rfl) f_put0) dX8_init_2_66 h (fun σ23 h => ?_)
  exact am_vret rfl dX8_init_2_69 h
theorem W_X8_act_f {G : am_G} {d : Nat} {a0 : Nat} {a1 : Int32} {σ : am_S} {Q : Int32 → am_S → Prop} (h : f_gr σ (some a0) [8] 8 (fun v1 => f_gi σ (some a0) [8] 12 (fun v2 => W_X8_find G d v1 v2 a1 σ (fun v3 σ4 => Q v3 σ4)))) : W_X8_act G (d + 1) a0 a1 σ Q := by
  unfold W_X8_act
  refine am_aloadr_n (x := some a0) dX8_act_0 rfl rfl ?_
  refine fx_gr (k := 8) (f_fldC (ref := "PondHouse$Draft") inf_X8 (by decide) q584 (Or.inl rfl) f_fld0) dX8_act_1 h (fun v1 h => ?_)
  refine am_aloadr_n (x := some a0) dX8_act_4 rfl rfl ?_
  refine fx_gi (k := 12) (f_fldC (ref := "PondHouse$Draft") inf_X8 (by decide) q593 (Or.inl rfl) f_fld0) dX8_act_5 h (fun v2 h => ?_)
  refine am_iload_n (x := a1) dX8_act_8 rfl rfl ?_
  refine fx_callS (Mc := m_X8_find) (as := [va_rf v1, .int v2, .int a1]) bm_X8_find q779 q780 (Nat.le_of_ble_eq_true rfl) dX8_act_9 (mt_X8_find (fx_k2i h (fun v3 σ4 h => ?_) (fun q σ' h => h.elim)))
  exact am_iret rfl dX8_act_12 h
theorem W_X8_find_f {G : am_G} {d : Nat} {a1 : Option Nat} {a2 : Int32} {a3 : Int32} {σ : am_S} {Q : Int32 → am_S → Prop} (h : B_X8_find_2 G d a1 a2 a3 0 σ Q) : W_X8_find G d a1 a2 a3 σ Q := by
  unfold W_X8_find
  refine am_iconst (v := 0) dX8_find_0 (by decide) ?_
  refine am_istore_n (L' := [(6, .int 0), (0, va_rf a1), (2, .int a2), (4, .int a3)]) dX8_find_1 rfl (Nat.le_of_ble_eq_true rfl) rfl ?_
  exact am_lss h rfl
theorem B_X8_find_2_f {G : am_G} {d : Nat} {x0 : Option Nat} {x1 : Int32} {x2 : Int32} {x3 : Int32} {σ : am_S} {Q : Int32 → am_S → Prop} (h : ((x1 ≤ x3 → Q (-1) σ) ∧ (¬ x1 ≤ x3 → f_ai σ x0 0 x3 (fun v1 => ((¬ v1 = x2 → B_X8_find_2 G d x0 x1 x2 (x3 + 1) σ Q) ∧ (v1 = x2 → Q x3 σ)))))) : B_X8_find_2 G d x0 x1 x2 x3 σ Q := by
  unfold B_X8_find_2
  refine am_iload_n (x := x3) dX8_find_2 rfl rfl ?_
  refine am_iload_n (x := x1) dX8_find_3 rfl rfl ?_
  refine am_icmp_ge (tgt := 22) dX8_find_4 (by decide) (fun c => ?_) (fun c => ?_)
  · have h := h.1 c
    refine am_iconst (v := (-1)) dX8_find_22 (by decide) ?_
    exact am_iret rfl dX8_find_23 h
  · have h := h.2 c
    refine am_aloadr_n (x := x0) dX8_find_7 rfl rfl ?_
    refine am_iload_n (x := x3) dX8_find_8 rfl rfl ?_
    refine fx_ai0 dX8_find_9 h (fun v1 h => ?_)
    refine am_iload_n (x := x2) dX8_find_10 rfl rfl ?_
    refine am_icmp_ne (tgt := 16) dX8_find_11 (by decide) (fun c => ?_) (fun c => ?_)
    · have h := h.1 c
      refine am_iinc (x := x3) (v := (x3 + 1)) (L' := [(6, .int (x3 + 1)), (0, va_rf x0), (2, .int x1), (4, .int x2)]) dX8_find_16 rfl rfl (Nat.le_of_ble_eq_true rfl) rfl ?_
      refine am_goto (tgt := 2) dX8_find_19 (by decide) ?_
      exact am_lss h rfl
    · have h := h.2 c
      refine am_iload_n (x := x3) dX8_find_14 rfl rfl ?_
      exact am_iret rfl dX8_find_15 h
theorem W_X8_holds_f {G : am_G} {d : Nat} {a0 : Nat} {a1 : Int32} {σ : am_S} {Q : Int32 → am_S → Prop} (h : f_o σ (some a0) [8] (fun b => W_X8_field G d b a1 σ (fun v1 σ2 => ((¬ v1 = (-1) → Q 1 σ2) ∧ (v1 = (-1) → f_gr σ2 (some a0) [8] 6 (fun v5 => f_gi σ2 (some a0) [8] 11 (fun v6 => W_X8_find G d v5 v6 a1 σ2 (fun v7 σ8 => ((v7 = (-1) → Q 0 σ8) ∧ (¬ v7 = (-1) → Q 1 σ8)))))))))) : W_X8_holds G (d + 1) a0 a1 σ Q := by
  unfold W_X8_holds
  refine am_aloadr_n (x := some a0) dX8_holds_0 rfl rfl ?_
  refine am_iload_n (x := a1) dX8_holds_1 rfl rfl ?_
  refine fx_callV (Mc := m_X8_field) (as := [.int a1]) (cs := [8]) (r := (some a0)) (f_clsC inf_X8 q788 f_cls0) bm_X8_field q786 q787 (Nat.le_of_ble_eq_true rfl) dX8_holds_2 h (fun b h => mt_X8_field (fx_k2i h (fun v1 σ2 h => ?_) (fun q σ' h => h.elim)))
  refine am_iconst (v := (-1)) dX8_holds_5 (by decide) ?_
  refine am_icmp_ne (tgt := 25) dX8_holds_6 (by decide) (fun c => ?_) (fun c => ?_)
  · have h := h.1 c
    refine am_iconst (v := 1) dX8_holds_25 (by decide) ?_
    refine am_goto (tgt := 30) dX8_holds_26 (by decide) ?_
    exact am_zret rfl rfl dX8_holds_30 h
  · have h := h.2 c
    refine am_aloadr_n (x := some a0) dX8_holds_9 rfl rfl ?_
    refine fx_gr (k := 6) (f_fldC (ref := "PondHouse$Draft") inf_X8 (by decide) q580 (Or.inl rfl) f_fld0) dX8_holds_10 h (fun v5 h => ?_)
    refine am_aloadr_n (x := some a0) dX8_holds_13 rfl rfl ?_
    refine fx_gi (k := 11) (f_fldC (ref := "PondHouse$Draft") inf_X8 (by decide) q591 (Or.inl rfl) f_fld0) dX8_holds_14 h (fun v6 h => ?_)
    refine am_iload_n (x := a1) dX8_holds_17 rfl rfl ?_
    refine fx_callS (Mc := m_X8_find) (as := [va_rf v5, .int v6, .int a1]) bm_X8_find q779 q780 (Nat.le_of_ble_eq_true rfl) dX8_holds_18 (mt_X8_find (fx_k2i h (fun v7 σ8 h => ?_) (fun q σ' h => h.elim)))
    refine am_iconst (v := (-1)) dX8_holds_21 (by decide) ?_
    refine am_icmp_eq (tgt := 29) dX8_holds_22 (by decide) (fun c => ?_) (fun c => ?_)
    · have h := h.1 c
      refine am_iconst (v := 0) dX8_holds_29 (by decide) ?_
      exact am_zret rfl rfl dX8_holds_30 h
    · have h := h.2 c
      refine am_iconst (v := 1) dX8_holds_25 (by decide) ?_
      refine am_goto (tgt := 30) dX8_holds_26 (by decide) ?_
      exact am_zret rfl rfl dX8_holds_30 h
theorem W_X8_field_f {G : am_G} {d : Nat} {a0 : Nat} {a1 : Int32} {σ : am_S} {Q : Int32 → am_S → Prop} (h : f_gr σ (some a0) [8] 3 (fun v1 => f_gi σ (some a0) [8] 10 (fun v2 => W_X8_find G d v1 v2 a1 σ (fun v3 σ4 => Q v3 σ4)))) : W_X8_field G (d + 1) a0 a1 σ Q := by
  unfold W_X8_field
  refine am_aloadr_n (x := some a0) dX8_field_0 rfl rfl ?_
  refine fx_gr (k := 3) (f_fldC (ref := "PondHouse$Draft") inf_X8 (by decide) q573 (Or.inl rfl) f_fld0) dX8_field_1 h (fun v1 h => ?_)
  refine am_aloadr_n (x := some a0) dX8_field_4 rfl rfl ?_
  refine fx_gi (k := 10) (f_fldC (ref := "PondHouse$Draft") inf_X8 (by decide) q589 (Or.inl rfl) f_fld0) dX8_field_5 h (fun v2 h => ?_)
  refine am_iload_n (x := a1) dX8_field_8 rfl rfl ?_
  refine fx_callS (Mc := m_X8_find) (as := [va_rf v1, .int v2, .int a1]) bm_X8_find q779 q780 (Nat.le_of_ble_eq_true rfl) dX8_field_9 (mt_X8_find (fx_k2i h (fun v3 σ4 h => ?_) (fun q σ' h => h.elim)))
  exact am_iret rfl dX8_field_12 h
theorem W_X8_isFull_f {G : am_G} {d : Nat} {a0 : Nat} {a1 : Int32} {σ : am_S} {Q : Int32 → am_S → Prop} (h : ((¬ a1 = 2 → ((¬ a1 = 1 → f_gi σ (some a0) [8] 10 (fun v1 => ((¬ v1 = 8 → Q 0 σ) ∧ (v1 = 8 → Q 1 σ)))) ∧ (a1 = 1 → f_gi σ (some a0) [8] 11 (fun v2 => ((¬ v2 = 4 → Q 0 σ) ∧ (v2 = 4 → Q 1 σ)))))) ∧ (a1 = 2 → f_gi σ (some a0) [8] 12 (fun v3 => ((¬ v3 = 8 → Q 0 σ) ∧ (v3 = 8 → Q 1 σ)))))) : W_X8_isFull G d a0 a1 σ Q := by
  unfold W_X8_isFull
  refine am_iload_n (x := a1) dX8_isFull_0 rfl rfl ?_
  refine am_iconst (v := 2) dX8_isFull_1 (by decide) ?_
  refine am_icmp_ne (tgt := 22) dX8_isFull_2 (by decide) (fun c => ?_) (fun c => ?_)
  · have h := h.1 c
    refine am_iload_n (x := a1) dX8_isFull_22 rfl rfl ?_
    refine am_iconst (v := 1) dX8_isFull_23 (by decide) ?_
    refine am_icmp_ne (tgt := 43) dX8_isFull_24 (by decide) (fun c => ?_) (fun c => ?_)
    · have h := h.1 c
      refine am_aloadr_n (x := some a0) dX8_isFull_43 rfl rfl ?_
      refine fx_gi (k := 10) (f_fldC (ref := "PondHouse$Draft") inf_X8 (by decide) q589 (Or.inl rfl) f_fld0) dX8_isFull_44 h (fun v1 h => ?_)
      refine am_bipush (v := 8) dX8_isFull_47 (by decide) ?_
      refine am_icmp_ne (tgt := 56) dX8_isFull_49 (by decide) (fun c => ?_) (fun c => ?_)
      · have h := h.1 c
        refine am_iconst (v := 0) dX8_isFull_56 (by decide) ?_
        exact am_zret rfl rfl dX8_isFull_57 h
      · have h := h.2 c
        refine am_iconst (v := 1) dX8_isFull_52 (by decide) ?_
        refine am_goto (tgt := 57) dX8_isFull_53 (by decide) ?_
        exact am_zret rfl rfl dX8_isFull_57 h
    · have h := h.2 c
      refine am_aloadr_n (x := some a0) dX8_isFull_27 rfl rfl ?_
      refine fx_gi (k := 11) (f_fldC (ref := "PondHouse$Draft") inf_X8 (by decide) q591 (Or.inl rfl) f_fld0) dX8_isFull_28 h (fun v2 h => ?_)
      refine am_iconst (v := 4) dX8_isFull_31 (by decide) ?_
      refine am_icmp_ne (tgt := 39) dX8_isFull_32 (by decide) (fun c => ?_) (fun c => ?_)
      · have h := h.1 c
        refine am_iconst (v := 0) dX8_isFull_39 (by decide) ?_
        refine am_goto (tgt := 57) dX8_isFull_40 (by decide) ?_
        exact am_zret rfl rfl dX8_isFull_57 h
      · have h := h.2 c
        refine am_iconst (v := 1) dX8_isFull_35 (by decide) ?_
        refine am_goto (tgt := 57) dX8_isFull_36 (by decide) ?_
        exact am_zret rfl rfl dX8_isFull_57 h
  · have h := h.2 c
    refine am_aloadr_n (x := some a0) dX8_isFull_5 rfl rfl ?_
    refine fx_gi (k := 12) (f_fldC (ref := "PondHouse$Draft") inf_X8 (by decide) q593 (Or.inl rfl) f_fld0) dX8_isFull_6 h (fun v3 h => ?_)
    refine am_bipush (v := 8) dX8_isFull_9 (by decide) ?_
    refine am_icmp_ne (tgt := 18) dX8_isFull_11 (by decide) (fun c => ?_) (fun c => ?_)
    · have h := h.1 c
      refine am_iconst (v := 0) dX8_isFull_18 (by decide) ?_
      refine am_goto (tgt := 57) dX8_isFull_19 (by decide) ?_
      exact am_zret rfl rfl dX8_isFull_57 h
    · have h := h.2 c
      refine am_iconst (v := 1) dX8_isFull_14 (by decide) ?_
      refine am_goto (tgt := 57) dX8_isFull_15 (by decide) ?_
      exact am_zret rfl rfl dX8_isFull_57 h
theorem W_X8_add_f {G : am_G} {d : Nat} {a0 : Nat} {a1 : Option Nat} {σ : am_S} {Q : am_S → Prop} (h : f_gi σ a1 [9] 0 (fun v1 => ((¬ v1 = 2 → f_gi σ a1 [9] 0 (fun v2 => ((¬ v2 = 1 → f_gr σ (some a0) [8] 3 (fun v3 => f_gi σ (some a0) [8] 10 (fun v4 => f_gi σ a1 [9] 1 (fun v5 => f_si σ v3 0 v4 v5 (fun σ6 => f_gr σ6 (some a0) [8] 4 (fun v7 => f_gi σ6 (some a0) [8] 10 (fun v8 => f_gi σ6 a1 [9] 2 (fun v9 => f_si σ6 v7 0 v8 v9 (fun σ10 => f_gr σ10 (some a0) [8] 5 (fun v11 => f_gi σ10 (some a0) [8] 10 (fun v12 => f_si σ10 v11 0 v12 (-1) (fun σ13 => f_gi σ13 (some a0) [8] 10 (fun v14 => f_p σ13 (some a0) [8] 10 (.int (v14 + 1)) (fun σ15 => Q σ15)))))))))))))) ∧ (v2 = 1 → f_gr σ (some a0) [8] 6 (fun v16 => f_gi σ (some a0) [8] 11 (fun v17 => f_gi σ a1 [9] 1 (fun v18 => f_si σ v16 0 v17 v18 (fun σ19 => f_gr σ19 (some a0) [8] 7 (fun v20 => f_gi σ19 (some a0) [8] 11 (fun v21 => f_gi σ19 a1 [9] 2 (fun v22 => f_si σ19 v20 0 v21 v22 (fun σ23 => f_gi σ23 (some a0) [8] 11 (fun v24 => f_p σ23 (some a0) [8] 11 (.int (v24 + 1)) (fun σ25 => Q σ25)))))))))))))) ∧ (v1 = 2 → f_gi σ a1 [9] 1 (fun v26 => f_o σ (some a0) [8] (fun b => W_X8_act G d b v26 σ (fun v27 σ28 => ((¬ v27 = (-1) → B_X8_add_30 G (d + 1) a0 a1 v27 v27 σ28 Q) ∧ (v27 = (-1) → f_gi σ28 (some a0) [8] 12 (fun v31 => B_X8_add_30 G (d + 1) a0 a1 v27 v31 σ28 Q)))))))))) : W_X8_add G (d + 1) a0 a1 σ Q := by
  unfold W_X8_add
  refine am_aloadr_n (x := a1) dX8_add_0 rfl rfl ?_
  refine fx_gi (k := 0) (f_fldC (ref := "PondHouse$Member") inf_X9 (by decide) q2026 (Or.inl rfl) f_fld0) dX8_add_1 h (fun v1 h => ?_)
  refine am_iconst (v := 2) dX8_add_4 (by decide) ?_
  refine am_icmp_ne (tgt := 73) dX8_add_5 (by decide) (fun c => ?_) (fun c => ?_)
  · have h := h.1 c
    refine am_aloadr_n (x := a1) dX8_add_73 rfl rfl ?_
    refine fx_gi (k := 0) (f_fldC (ref := "PondHouse$Member") inf_X9 (by decide) q2026 (Or.inl rfl) f_fld0) dX8_add_74 h (fun v2 h => ?_)
    refine am_iconst (v := 1) dX8_add_77 (by decide) ?_
    refine am_icmp_ne (tgt := 120) dX8_add_78 (by decide) (fun c => ?_) (fun c => ?_)
    · have h := h.1 c
      refine am_aloadr_n (x := some a0) dX8_add_120 rfl rfl ?_
      refine fx_gr (k := 3) (f_fldC (ref := "PondHouse$Draft") inf_X8 (by decide) q573 (Or.inl rfl) f_fld0) dX8_add_121 h (fun v3 h => ?_)
      refine am_aloadr_n (x := some a0) dX8_add_124 rfl rfl ?_
      refine fx_gi (k := 10) (f_fldC (ref := "PondHouse$Draft") inf_X8 (by decide) q589 (Or.inl rfl) f_fld0) dX8_add_125 h (fun v4 h => ?_)
      refine am_aloadr_n (x := a1) dX8_add_128 rfl rfl ?_
      refine fx_gi (k := 1) (f_fldC (ref := "PondHouse$Member") inf_X9 (by decide) q2029 (Or.inl rfl) f_fld0) dX8_add_129 h (fun v5 h => ?_)
      refine fx_si0 dX8_add_132 h (fun σ6 h => ?_)
      refine am_aloadr_n (x := some a0) dX8_add_133 rfl rfl ?_
      refine fx_gr (k := 4) (f_fldC (ref := "PondHouse$Draft") inf_X8 (by decide) q576 (Or.inl rfl) f_fld0) dX8_add_134 h (fun v7 h => ?_)
      refine am_aloadr_n (x := some a0) dX8_add_137 rfl rfl ?_
      refine fx_gi (k := 10) (f_fldC (ref := "PondHouse$Draft") inf_X8 (by decide) q589 (Or.inl rfl) f_fld0) dX8_add_138 h (fun v8 h => ?_)
      refine am_aloadr_n (x := a1) dX8_add_141 rfl rfl ?_
      refine fx_gi (k := 2) (f_fldC (ref := "PondHouse$Member") inf_X9 (by decide) q2031 (Or.inl rfl) f_fld0) dX8_add_142 h (fun v9 h => ?_)
      refine fx_si0 dX8_add_145 h (fun σ10 h => ?_)
      refine am_aloadr_n (x := some a0) dX8_add_146 rfl rfl ?_
      refine fx_gr (k := 5) (f_fldC (ref := "PondHouse$Draft") inf_X8 (by decide) q578 (Or.inl rfl) f_fld0) dX8_add_147 h (fun v11 h => ?_)
      refine am_aloadr_n (x := some a0) dX8_add_150 rfl rfl ?_
      refine fx_gi (k := 10) (f_fldC (ref := "PondHouse$Draft") inf_X8 (by decide) q589 (Or.inl rfl) f_fld0) dX8_add_151 h (fun v12 h => ?_)
      refine am_iconst (v := (-1)) dX8_add_154 (by decide) ?_
      refine fx_si0 dX8_add_155 h (fun σ13 h => ?_)
      refine am_aloadr_n (x := some a0) dX8_add_156 rfl rfl ?_
      refine am_dup dX8_add_157 (am_rf_cat _) ?_
      refine fx_gi (k := 10) (f_fldC (ref := "PondHouse$Draft") inf_X8 (by decide) q589 (Or.inl rfl) f_fld0) dX8_add_158 h (fun v14 h => ?_)
      refine am_iconst (v := 1) dX8_add_161 (by decide) ?_
      refine am_iadd dX8_add_162 ?_
      refine fx_p (k := 10) (v := .int (v14 + 1)) (f_putC inf_X8 (by decide) rfl rfl q589 (Or.inl rfl) f_put0) dX8_add_163 h (fun σ15 h => ?_)
      exact am_vret rfl dX8_add_166 h
    · have h := h.2 c
      refine am_aloadr_n (x := some a0) dX8_add_81 rfl rfl ?_
      refine fx_gr (k := 6) (f_fldC (ref := "PondHouse$Draft") inf_X8 (by decide) q580 (Or.inl rfl) f_fld0) dX8_add_82 h (fun v16 h => ?_)
      refine am_aloadr_n (x := some a0) dX8_add_85 rfl rfl ?_
      refine fx_gi (k := 11) (f_fldC (ref := "PondHouse$Draft") inf_X8 (by decide) q591 (Or.inl rfl) f_fld0) dX8_add_86 h (fun v17 h => ?_)
      refine am_aloadr_n (x := a1) dX8_add_89 rfl rfl ?_
      refine fx_gi (k := 1) (f_fldC (ref := "PondHouse$Member") inf_X9 (by decide) q2029 (Or.inl rfl) f_fld0) dX8_add_90 h (fun v18 h => ?_)
      refine fx_si0 dX8_add_93 h (fun σ19 h => ?_)
      refine am_aloadr_n (x := some a0) dX8_add_94 rfl rfl ?_
      refine fx_gr (k := 7) (f_fldC (ref := "PondHouse$Draft") inf_X8 (by decide) q582 (Or.inl rfl) f_fld0) dX8_add_95 h (fun v20 h => ?_)
      refine am_aloadr_n (x := some a0) dX8_add_98 rfl rfl ?_
      refine fx_gi (k := 11) (f_fldC (ref := "PondHouse$Draft") inf_X8 (by decide) q591 (Or.inl rfl) f_fld0) dX8_add_99 h (fun v21 h => ?_)
      refine am_aloadr_n (x := a1) dX8_add_102 rfl rfl ?_
      refine fx_gi (k := 2) (f_fldC (ref := "PondHouse$Member") inf_X9 (by decide) q2031 (Or.inl rfl) f_fld0) dX8_add_103 h (fun v22 h => ?_)
      refine fx_si0 dX8_add_106 h (fun σ23 h => ?_)
      refine am_aloadr_n (x := some a0) dX8_add_107 rfl rfl ?_
      refine am_dup dX8_add_108 (am_rf_cat _) ?_
      refine fx_gi (k := 11) (f_fldC (ref := "PondHouse$Draft") inf_X8 (by decide) q591 (Or.inl rfl) f_fld0) dX8_add_109 h (fun v24 h => ?_)
      refine am_iconst (v := 1) dX8_add_112 (by decide) ?_
      refine am_iadd dX8_add_113 ?_
      refine fx_p (k := 11) (v := .int (v24 + 1)) (f_putC inf_X8 (by decide) rfl rfl q591 (Or.inl rfl) f_put0) dX8_add_114 h (fun σ25 h => ?_)
      refine am_goto (tgt := 166) dX8_add_117 (by decide) ?_
      exact am_vret rfl dX8_add_166 h
  · have h := h.2 c
    refine am_aloadr_n (x := some a0) dX8_add_8 rfl rfl ?_
    refine am_aloadr_n (x := a1) dX8_add_9 rfl rfl ?_
    refine fx_gi (k := 1) (f_fldC (ref := "PondHouse$Member") inf_X9 (by decide) q2029 (Or.inl rfl) f_fld0) dX8_add_10 h (fun v26 h => ?_)
    refine fx_callV (Mc := m_X8_act) (as := [.int v26]) (cs := [8]) (r := (some a0)) (f_clsC inf_X8 q777 f_cls0) bm_X8_act q798 q776 (Nat.le_of_ble_eq_true rfl) dX8_add_13 h (fun b h => mt_X8_act (fx_k2i h (fun v27 σ28 h => ?_) (fun q σ' h => h.elim)))
    refine am_istore_n (L' := [(4, .int v27), (0, va_rf (some a0)), (2, va_rf a1)]) dX8_add_16 rfl (Nat.le_of_ble_eq_true rfl) rfl ?_
    refine am_iload_n (x := v27) dX8_add_17 rfl rfl ?_
    refine am_iconst (v := (-1)) dX8_add_18 (by decide) ?_
    refine am_icmp_ne (tgt := 29) dX8_add_19 (by decide) (fun c => ?_) (fun c => ?_)
    · have h := h.1 c
      refine am_iload_n (x := v27) dX8_add_29 rfl rfl ?_
      exact am_lss h rfl
    · have h := h.2 c
      refine am_aloadr_n (x := some a0) dX8_add_22 rfl rfl ?_
      refine fx_gi (k := 12) (f_fldC (ref := "PondHouse$Draft") inf_X8 (by decide) q593 (Or.inl rfl) f_fld0) dX8_add_23 h (fun v31 h => ?_)
      refine am_goto (tgt := 30) dX8_add_26 (by decide) ?_
      exact am_lss h rfl
theorem B_X8_add_30_f {G : am_G} {d : Nat} {a0 : Nat} {x1 : Option Nat} {x2 : Int32} {s0 : Int32} {σ : am_S} {Q : am_S → Prop} (h : f_gr σ (some a0) [8] 8 (fun v1 => f_gi σ x1 [9] 1 (fun v2 => f_si σ v1 0 s0 v2 (fun σ3 => f_gr σ3 (some a0) [8] 9 (fun v4 => f_gr σ3 x1 [9] 3 (fun v5 => f_sr σ3 v4 10 [10] s0 v5 (fun σ6 => f_gi σ6 (some a0) [8] 12 (fun v7 => ((¬ x2 = (-1) → f_p σ6 (some a0) [8] 12 (.int (v7 + 0)) (fun σ8 => Q σ8)) ∧ (x2 = (-1) → f_p σ6 (some a0) [8] 12 (.int (v7 + 1)) (fun σ9 => Q σ9))))))))))) : B_X8_add_30 G (d + 1) a0 x1 x2 s0 σ Q := by
  unfold B_X8_add_30
  refine am_istore_n (L' := [(6, .int s0), (0, va_rf (some a0)), (2, va_rf x1), (4, .int x2)]) dX8_add_30 rfl (Nat.le_of_ble_eq_true rfl) rfl ?_
  refine am_aloadr_n (x := some a0) dX8_add_31 rfl rfl ?_
  refine fx_gr (k := 8) (f_fldC (ref := "PondHouse$Draft") inf_X8 (by decide) q584 (Or.inl rfl) f_fld0) dX8_add_32 h (fun v1 h => ?_)
  refine am_iload_n (x := s0) dX8_add_35 rfl rfl ?_
  refine am_aloadr_n (x := x1) dX8_add_36 rfl rfl ?_
  refine fx_gi (k := 1) (f_fldC (ref := "PondHouse$Member") inf_X9 (by decide) q2029 (Or.inl rfl) f_fld0) dX8_add_37 h (fun v2 h => ?_)
  refine fx_si0 dX8_add_40 h (fun σ3 h => ?_)
  refine am_aloadr_n (x := some a0) dX8_add_41 rfl rfl ?_
  refine fx_gr (k := 9) (f_fldC (ref := "PondHouse$Draft") inf_X8 (by decide) q586 (Or.inl rfl) f_fld0) dX8_add_42 h (fun v4 h => ?_)
  refine am_iload_n (x := s0) dX8_add_45 rfl rfl ?_
  refine am_aloadr_n (x := x1) dX8_add_46 rfl rfl ?_
  refine fx_gr (k := 3) (f_fldC (ref := "PondHouse$Member") inf_X9 (by decide) q2033 (Or.inl rfl) f_fld0) dX8_add_47 h (fun v5 h => ?_)
  refine fx_sr (τ := 10) (E := "PondHouse$Block") (cs := [10]) (v := v5) rfl (f_clsC inf_X10 (Or.inl rfl) f_cls0) dX8_add_50 h (fun σ6 h => ?_)
  refine am_aloadr_n (x := some a0) dX8_add_51 rfl rfl ?_
  refine am_dup dX8_add_52 (am_rf_cat _) ?_
  refine fx_gi (k := 12) (f_fldC (ref := "PondHouse$Draft") inf_X8 (by decide) q593 (Or.inl rfl) f_fld0) dX8_add_53 h (fun v7 h => ?_)
  refine am_iload_n (x := x2) dX8_add_56 rfl rfl ?_
  refine am_iconst (v := (-1)) dX8_add_57 (by decide) ?_
  refine am_icmp_ne (tgt := 65) dX8_add_58 (by decide) (fun c => ?_) (fun c => ?_)
  · have h := h.1 c
    refine am_iconst (v := 0) dX8_add_65 (by decide) ?_
    refine am_iadd dX8_add_66 ?_
    refine fx_p (k := 12) (v := .int (v7 + 0)) (f_putC inf_X8 (by decide) rfl rfl q593 (Or.inl rfl) f_put0) dX8_add_67 h (fun σ8 h => ?_)
    refine am_goto (tgt := 166) dX8_add_70 (by decide) ?_
    exact am_vret rfl dX8_add_166 h
  · have h := h.2 c
    refine am_iconst (v := 1) dX8_add_61 (by decide) ?_
    refine am_goto (tgt := 66) dX8_add_62 (by decide) ?_
    refine am_iadd dX8_add_66 ?_
    refine fx_p (k := 12) (v := .int (v7 + 1)) (f_putC inf_X8 (by decide) rfl rfl q593 (Or.inl rfl) f_put0) dX8_add_67 h (fun σ9 h => ?_)
    refine am_goto (tgt := 166) dX8_add_70 (by decide) ?_
    exact am_vret rfl dX8_add_166 h
theorem W_X8_drops_f {G : am_G} {d : Nat} {a0 : Nat} {a1 : Int32} {σ : am_S} {Q : Int32 → am_S → Prop} (h : f_o σ (some a0) [8] (fun b => W_X8_field G d b a1 σ (fun v1 σ2 => f_gr σ2 (some a0) [8] 6 (fun v5 => f_gi σ2 (some a0) [8] 11 (fun v6 => W_X8_find G d v5 v6 a1 σ2 (fun v7 σ8 => f_o σ8 (some a0) [8] (fun b => W_X8_act G d b a1 σ8 (fun v11 σ12 => ((v1 = (-1) → ((v7 = (-1) → ((v11 = (-1) → B_X8_drops_175 G (d + 1) a0 v1 v7 v11 σ12 Q) ∧ (¬ v11 = (-1) → f_gi σ12 (some a0) [8] 12 (fun v15 => f_p σ12 (some a0) [8] 12 (.int (v15 - 1)) (fun σ16 => f_gr σ16 (some a0) [8] 8 (fun v17 => f_gi σ16 (some a0) [8] 12 (fun v18 => W_X8_shift G d v17 v11 v18 σ16 (fun σ20 => f_gr σ20 (some a0) [8] 9 (fun v23 => f_gr σ20 (some a0) [8] 9 (fun v24 => f_gi σ20 (some a0) [8] 12 (fun v25 => f_cpr σ20 v23 (v11 + 1) v24 v11 (v25 - v11) 10 [10] (fun σ26 => B_X8_drops_175 G (d + 1) a0 v1 v7 v11 σ26 Q)))))))))))) ∧ (¬ v7 = (-1) → f_gi σ12 (some a0) [8] 11 (fun v27 => f_p σ12 (some a0) [8] 11 (.int (v27 - 1)) (fun σ28 => f_gr σ28 (some a0) [8] 6 (fun v29 => f_gi σ28 (some a0) [8] 11 (fun v30 => W_X8_shift G d v29 v7 v30 σ28 (fun σ32 => f_gr σ32 (some a0) [8] 7 (fun v35 => f_gi σ32 (some a0) [8] 11 (fun v36 => W_X8_shift G d v35 v7 v36 σ32 (fun σ38 => B_X8_drops_175 G (d + 1) a0 v1 v7 v11 σ38 Q))))))))))) ∧ (¬ v1 = (-1) → f_gi σ12 (some a0) [8] 10 (fun v41 => f_p σ12 (some a0) [8] 10 (.int (v41 - 1)) (fun σ42 => f_gr σ42 (some a0) [8] 3 (fun v43 => f_gi σ42 (some a0) [8] 10 (fun v44 => W_X8_shift G d v43 v1 v44 σ42 (fun σ46 => f_gr σ46 (some a0) [8] 4 (fun v49 => f_gi σ46 (some a0) [8] 10 (fun v50 => W_X8_shift G d v49 v1 v50 σ46 (fun σ52 => f_gr σ52 (some a0) [8] 5 (fun v55 => f_gi σ52 (some a0) [8] 10 (fun v56 => W_X8_shift G d v55 v1 v56 σ52 (fun σ58 => B_X8_drops_175 G (d + 1) a0 v1 v7 v11 σ58 Q))))))))))))))))))))) : W_X8_drops G (d + 1) a0 a1 σ Q := by
  unfold W_X8_drops
  refine am_aloadr_n (x := some a0) dX8_drops_0 rfl rfl ?_
  refine am_iload_n (x := a1) dX8_drops_1 rfl rfl ?_
  refine fx_callV (Mc := m_X8_field) (as := [.int a1]) (cs := [8]) (r := (some a0)) (f_clsC inf_X8 q788 f_cls0) bm_X8_field q786 q787 (Nat.le_of_ble_eq_true rfl) dX8_drops_2 h (fun b h => mt_X8_field (fx_k2i h (fun v1 σ2 h => ?_) (fun q σ' h => h.elim)))
  refine am_istore_n (L' := [(4, .int v1), (0, va_rf (some a0)), (2, .int a1)]) dX8_drops_5 rfl (Nat.le_of_ble_eq_true rfl) rfl ?_
  refine am_aloadr_n (x := some a0) dX8_drops_6 rfl rfl ?_
  refine fx_gr (k := 6) (f_fldC (ref := "PondHouse$Draft") inf_X8 (by decide) q580 (Or.inl rfl) f_fld0) dX8_drops_7 h (fun v5 h => ?_)
  refine am_aloadr_n (x := some a0) dX8_drops_10 rfl rfl ?_
  refine fx_gi (k := 11) (f_fldC (ref := "PondHouse$Draft") inf_X8 (by decide) q591 (Or.inl rfl) f_fld0) dX8_drops_11 h (fun v6 h => ?_)
  refine am_iload_n (x := a1) dX8_drops_14 rfl rfl ?_
  refine fx_callS (Mc := m_X8_find) (as := [va_rf v5, .int v6, .int a1]) bm_X8_find q779 q780 (Nat.le_of_ble_eq_true rfl) dX8_drops_15 (mt_X8_find (fx_k2i h (fun v7 σ8 h => ?_) (fun q σ' h => h.elim)))
  refine am_istore_n (L' := [(6, .int v7), (4, .int v1), (0, va_rf (some a0)), (2, .int a1)]) dX8_drops_18 rfl (Nat.le_of_ble_eq_true rfl) rfl ?_
  refine am_aloadr_n (x := some a0) dX8_drops_19 rfl rfl ?_
  refine am_iload_n (x := a1) dX8_drops_20 rfl rfl ?_
  refine fx_callV (Mc := m_X8_act) (as := [.int a1]) (cs := [8]) (r := (some a0)) (f_clsC inf_X8 q777 f_cls0) bm_X8_act q798 q776 (Nat.le_of_ble_eq_true rfl) dX8_drops_21 h (fun b h => mt_X8_act (fx_k2i h (fun v11 σ12 h => ?_) (fun q σ' h => h.elim)))
  refine am_istore (L' := [(8, .int v11), (6, .int v7), (4, .int v1), (0, va_rf (some a0)), (2, .int a1)]) dX8_drops_24 (Nat.le_of_ble_eq_true rfl) rfl ?_
  refine am_iload_n (x := v1) dX8_drops_26 rfl rfl ?_
  refine am_iconst (v := (-1)) dX8_drops_27 (by decide) ?_
  refine am_icmp_eq (tgt := 80) dX8_drops_28 (by decide) (fun c => ?_) (fun c => ?_)
  · have h := h.1 c
    refine am_iload_n (x := v7) dX8_drops_80 rfl rfl ?_
    refine am_iconst (v := (-1)) dX8_drops_81 (by decide) ?_
    refine am_icmp_eq (tgt := 122) dX8_drops_82 (by decide) (fun c => ?_) (fun c => ?_)
    · have h := h.1 c
      refine am_iload (x := v11) dX8_drops_122 rfl ?_
      refine am_iconst (v := (-1)) dX8_drops_124 (by decide) ?_
      refine am_icmp_eq (tgt := 175) dX8_drops_125 (by decide) (fun c => ?_) (fun c => ?_)
      · have h := h.1 c
        exact am_lss h rfl
      · have h := h.2 c
        refine am_aloadr_n (x := some a0) dX8_drops_128 rfl rfl ?_
        refine am_dup dX8_drops_129 (am_rf_cat _) ?_
        refine fx_gi (k := 12) (f_fldC (ref := "PondHouse$Draft") inf_X8 (by decide) q593 (Or.inl rfl) f_fld0) dX8_drops_130 h (fun v15 h => ?_)
        refine am_iconst (v := 1) dX8_drops_133 (by decide) ?_
        refine am_isub dX8_drops_134 ?_
        refine fx_p (k := 12) (v := .int (v15 - 1)) (f_putC inf_X8 (by decide) rfl rfl q593 (Or.inl rfl) f_put0) dX8_drops_135 h (fun σ16 h => ?_)
        refine am_aloadr_n (x := some a0) dX8_drops_138 rfl rfl ?_
        refine fx_gr (k := 8) (f_fldC (ref := "PondHouse$Draft") inf_X8 (by decide) q584 (Or.inl rfl) f_fld0) dX8_drops_139 h (fun v17 h => ?_)
        refine am_iload (x := v11) dX8_drops_142 rfl ?_
        refine am_aloadr_n (x := some a0) dX8_drops_144 rfl rfl ?_
        refine fx_gi (k := 12) (f_fldC (ref := "PondHouse$Draft") inf_X8 (by decide) q593 (Or.inl rfl) f_fld0) dX8_drops_145 h (fun v18 h => ?_)
        refine fx_callS (Mc := m_X8_shift) (as := [va_rf v17, .int v11, .int v18]) bm_X8_shift q823 q824 (Nat.le_of_ble_eq_true rfl) dX8_drops_148 (mt_X8_shift (fx_k2v h (fun σ20 h => ?_) (fun q σ' h => h.elim)))
        refine am_aloadr_n (x := some a0) dX8_drops_151 rfl rfl ?_
        refine fx_gr (k := 9) (f_fldC (ref := "PondHouse$Draft") inf_X8 (by decide) q586 (Or.inl rfl) f_fld0) dX8_drops_152 h (fun v23 h => ?_)
        refine am_iload (x := v11) dX8_drops_155 rfl ?_
        refine am_iconst (v := 1) dX8_drops_157 (by decide) ?_
        refine am_iadd dX8_drops_158 ?_
        refine am_aloadr_n (x := some a0) dX8_drops_159 rfl rfl ?_
        refine fx_gr (k := 9) (f_fldC (ref := "PondHouse$Draft") inf_X8 (by decide) q586 (Or.inl rfl) f_fld0) dX8_drops_160 h (fun v24 h => ?_)
        refine am_iload (x := v11) dX8_drops_163 rfl ?_
        refine am_aloadr_n (x := some a0) dX8_drops_165 rfl rfl ?_
        refine fx_gi (k := 12) (f_fldC (ref := "PondHouse$Draft") inf_X8 (by decide) q593 (Or.inl rfl) f_fld0) dX8_drops_166 h (fun v25 h => ?_)
        refine am_iload (x := v11) dX8_drops_169 rfl ?_
        refine am_isub dX8_drops_171 ?_
        refine fx_cpr (τ := 10) (E := "PondHouse$Block") (cs := [10]) q621 q623 q622 q177 rfl (am_mayL (f_clsC inf_X10 (Or.inl rfl) f_cls0)) (Nat.le_of_ble_eq_true rfl) dX8_drops_172 h (fun σ26 h => ?_)
        exact am_lss h rfl
    · have h := h.2 c
      refine am_aloadr_n (x := some a0) dX8_drops_85 rfl rfl ?_
      refine am_dup dX8_drops_86 (am_rf_cat _) ?_
      refine fx_gi (k := 11) (f_fldC (ref := "PondHouse$Draft") inf_X8 (by decide) q591 (Or.inl rfl) f_fld0) dX8_drops_87 h (fun v27 h => ?_)
      refine am_iconst (v := 1) dX8_drops_90 (by decide) ?_
      refine am_isub dX8_drops_91 ?_
      refine fx_p (k := 11) (v := .int (v27 - 1)) (f_putC inf_X8 (by decide) rfl rfl q591 (Or.inl rfl) f_put0) dX8_drops_92 h (fun σ28 h => ?_)
      refine am_aloadr_n (x := some a0) dX8_drops_95 rfl rfl ?_
      refine fx_gr (k := 6) (f_fldC (ref := "PondHouse$Draft") inf_X8 (by decide) q580 (Or.inl rfl) f_fld0) dX8_drops_96 h (fun v29 h => ?_)
      refine am_iload_n (x := v7) dX8_drops_99 rfl rfl ?_
      refine am_aloadr_n (x := some a0) dX8_drops_100 rfl rfl ?_
      refine fx_gi (k := 11) (f_fldC (ref := "PondHouse$Draft") inf_X8 (by decide) q591 (Or.inl rfl) f_fld0) dX8_drops_101 h (fun v30 h => ?_)
      refine fx_callS (Mc := m_X8_shift) (as := [va_rf v29, .int v7, .int v30]) bm_X8_shift q823 q824 (Nat.le_of_ble_eq_true rfl) dX8_drops_104 (mt_X8_shift (fx_k2v h (fun σ32 h => ?_) (fun q σ' h => h.elim)))
      refine am_aloadr_n (x := some a0) dX8_drops_107 rfl rfl ?_
      refine fx_gr (k := 7) (f_fldC (ref := "PondHouse$Draft") inf_X8 (by decide) q582 (Or.inl rfl) f_fld0) dX8_drops_108 h (fun v35 h => ?_)
      refine am_iload_n (x := v7) dX8_drops_111 rfl rfl ?_
      refine am_aloadr_n (x := some a0) dX8_drops_112 rfl rfl ?_
      refine fx_gi (k := 11) (f_fldC (ref := "PondHouse$Draft") inf_X8 (by decide) q591 (Or.inl rfl) f_fld0) dX8_drops_113 h (fun v36 h => ?_)
      refine fx_callS (Mc := m_X8_shift) (as := [va_rf v35, .int v7, .int v36]) bm_X8_shift q823 q824 (Nat.le_of_ble_eq_true rfl) dX8_drops_116 (mt_X8_shift (fx_k2v h (fun σ38 h => ?_) (fun q σ' h => h.elim)))
      refine am_goto (tgt := 175) dX8_drops_119 (by decide) ?_
      exact am_lss h rfl
  · have h := h.2 c
    refine am_aloadr_n (x := some a0) dX8_drops_31 rfl rfl ?_
    refine am_dup dX8_drops_32 (am_rf_cat _) ?_
    refine fx_gi (k := 10) (f_fldC (ref := "PondHouse$Draft") inf_X8 (by decide) q589 (Or.inl rfl) f_fld0) dX8_drops_33 h (fun v41 h => ?_)
    refine am_iconst (v := 1) dX8_drops_36 (by decide) ?_
    refine am_isub dX8_drops_37 ?_
    refine fx_p (k := 10) (v := .int (v41 - 1)) (f_putC inf_X8 (by decide) rfl rfl q589 (Or.inl rfl) f_put0) dX8_drops_38 h (fun σ42 h => ?_)
    refine am_aloadr_n (x := some a0) dX8_drops_41 rfl rfl ?_
    refine fx_gr (k := 3) (f_fldC (ref := "PondHouse$Draft") inf_X8 (by decide) q573 (Or.inl rfl) f_fld0) dX8_drops_42 h (fun v43 h => ?_)
    refine am_iload_n (x := v1) dX8_drops_45 rfl rfl ?_
    refine am_aloadr_n (x := some a0) dX8_drops_46 rfl rfl ?_
    refine fx_gi (k := 10) (f_fldC (ref := "PondHouse$Draft") inf_X8 (by decide) q589 (Or.inl rfl) f_fld0) dX8_drops_47 h (fun v44 h => ?_)
    refine fx_callS (Mc := m_X8_shift) (as := [va_rf v43, .int v1, .int v44]) bm_X8_shift q823 q824 (Nat.le_of_ble_eq_true rfl) dX8_drops_50 (mt_X8_shift (fx_k2v h (fun σ46 h => ?_) (fun q σ' h => h.elim)))
    refine am_aloadr_n (x := some a0) dX8_drops_53 rfl rfl ?_
    refine fx_gr (k := 4) (f_fldC (ref := "PondHouse$Draft") inf_X8 (by decide) q576 (Or.inl rfl) f_fld0) dX8_drops_54 h (fun v49 h => ?_)
    refine am_iload_n (x := v1) dX8_drops_57 rfl rfl ?_
    refine am_aloadr_n (x := some a0) dX8_drops_58 rfl rfl ?_
    refine fx_gi (k := 10) (f_fldC (ref := "PondHouse$Draft") inf_X8 (by decide) q589 (Or.inl rfl) f_fld0) dX8_drops_59 h (fun v50 h => ?_)
    refine fx_callS (Mc := m_X8_shift) (as := [va_rf v49, .int v1, .int v50]) bm_X8_shift q823 q824 (Nat.le_of_ble_eq_true rfl) dX8_drops_62 (mt_X8_shift (fx_k2v h (fun σ52 h => ?_) (fun q σ' h => h.elim)))
    refine am_aloadr_n (x := some a0) dX8_drops_65 rfl rfl ?_
    refine fx_gr (k := 5) (f_fldC (ref := "PondHouse$Draft") inf_X8 (by decide) q578 (Or.inl rfl) f_fld0) dX8_drops_66 h (fun v55 h => ?_)
    refine am_iload_n (x := v1) dX8_drops_69 rfl rfl ?_
    refine am_aloadr_n (x := some a0) dX8_drops_70 rfl rfl ?_
    refine fx_gi (k := 10) (f_fldC (ref := "PondHouse$Draft") inf_X8 (by decide) q589 (Or.inl rfl) f_fld0) dX8_drops_71 h (fun v56 h => ?_)
    refine fx_callS (Mc := m_X8_shift) (as := [va_rf v55, .int v1, .int v56]) bm_X8_shift q823 q824 (Nat.le_of_ble_eq_true rfl) dX8_drops_74 (mt_X8_shift (fx_k2v h (fun σ58 h => ?_) (fun q σ' h => h.elim)))
    refine am_goto (tgt := 175) dX8_drops_77 (by decide) ?_
    exact am_lss h rfl
theorem B_X8_drops_175_f {G : am_G} {d : Nat} {a0 : Nat} {x2 : Int32} {x3 : Int32} {x4 : Int32} {σ : am_S} {Q : Int32 → am_S → Prop} (h : ((¬ x2 = (-1) → Q 1 σ) ∧ (x2 = (-1) → ((¬ x3 = (-1) → Q 1 σ) ∧ (x3 = (-1) → ((x4 = (-1) → Q 0 σ) ∧ (¬ x4 = (-1) → Q 1 σ))))))) : B_X8_drops_175 G (d + 1) a0 x2 x3 x4 σ Q := by
  unfold B_X8_drops_175
  refine am_iload_n (x := x2) dX8_drops_175 rfl rfl ?_
  refine am_iconst (v := (-1)) dX8_drops_176 (by decide) ?_
  refine am_icmp_ne (tgt := 191) dX8_drops_177 (by decide) (fun c => ?_) (fun c => ?_)
  · have h := h.1 c
    refine am_iconst (v := 1) dX8_drops_191 (by decide) ?_
    refine am_goto (tgt := 196) dX8_drops_192 (by decide) ?_
    exact am_zret rfl rfl dX8_drops_196 h
  · have h := h.2 c
    refine am_iload_n (x := x3) dX8_drops_180 rfl rfl ?_
    refine am_iconst (v := (-1)) dX8_drops_181 (by decide) ?_
    refine am_icmp_ne (tgt := 191) dX8_drops_182 (by decide) (fun c => ?_) (fun c => ?_)
    · have h := h.1 c
      refine am_iconst (v := 1) dX8_drops_191 (by decide) ?_
      refine am_goto (tgt := 196) dX8_drops_192 (by decide) ?_
      exact am_zret rfl rfl dX8_drops_196 h
    · have h := h.2 c
      refine am_iload (x := x4) dX8_drops_185 rfl ?_
      refine am_iconst (v := (-1)) dX8_drops_187 (by decide) ?_
      refine am_icmp_eq (tgt := 195) dX8_drops_188 (by decide) (fun c => ?_) (fun c => ?_)
      · have h := h.1 c
        refine am_iconst (v := 0) dX8_drops_195 (by decide) ?_
        exact am_zret rfl rfl dX8_drops_196 h
      · have h := h.2 c
        refine am_iconst (v := 1) dX8_drops_191 (by decide) ?_
        refine am_goto (tgt := 196) dX8_drops_192 (by decide) ?_
        exact am_zret rfl rfl dX8_drops_196 h
theorem W_X8_shift_f {G : am_G} {d : Nat} {a1 : Option Nat} {a2 : Int32} {a3 : Int32} {σ : am_S} {Q : am_S → Prop} (h : f_cpi σ a1 (a2 + 1) a1 a2 (a3 - a2) 0 .int (fun σ1 => Q σ1)) : W_X8_shift G (d + 1) a1 a2 a3 σ Q := by
  unfold W_X8_shift
  refine am_aloadr_n (x := a1) dX8_shift_0 rfl rfl ?_
  refine am_iload_n (x := a2) dX8_shift_1 rfl rfl ?_
  refine am_iconst (v := 1) dX8_shift_2 (by decide) ?_
  refine am_iadd dX8_shift_3 ?_
  refine am_aloadr_n (x := a1) dX8_shift_4 rfl rfl ?_
  refine am_iload_n (x := a2) dX8_shift_5 rfl rfl ?_
  refine am_iload_n (x := a3) dX8_shift_6 rfl rfl ?_
  refine am_iload_n (x := a2) dX8_shift_7 rfl rfl ?_
  refine am_isub dX8_shift_8 ?_
  refine fx_cpi (τ := 0) q621 q623 q622 q177 rfl rfl (Nat.le_of_ble_eq_true rfl) dX8_shift_9 h (fun σ1 h => ?_)
  exact am_vret rfl dX8_shift_12 h
theorem W_X9_init_f {G : am_G} {d : Nat} {a0 : Nat} {a1 : Int32} {a2 : Int32} {a3 : Int32} {a4 : Option Nat} {σ : am_S} {Q : am_S → Prop} (h : f_p σ (some a0) [9] 0 (.int a1) (fun σ1 => f_p σ1 (some a0) [9] 1 (.int a2) (fun σ2 => f_p σ2 (some a0) [9] 2 (.int a3) (fun σ3 => f_p σ3 (some a0) [9] 3 (va_rf a4) (fun σ4 => Q σ4))))) : W_X9_init G (d + 1) a0 a1 a2 a3 a4 σ Q := by
  unfold W_X9_init
  refine am_aloadr_n (x := some a0) dX9_init_0 rfl rfl ?_
  refine am_objInit q2023 q304 q305 (Nat.le_of_ble_eq_true rfl) dX9_init_1 ?_
  refine am_aloadr_n (x := some a0) dX9_init_4 rfl rfl ?_
  refine am_iload_n (x := a1) dX9_init_5 rfl rfl ?_
  refine fx_p (k := 0) (v := .int a1) (f_putC inf_X9 (by decide) rfl rfl q2024 (Or.inr ⟨rfl, rfl, rfl⟩) f_put0) dX9_init_6 h (fun σ1 h => ?_)
  refine am_aloadr_n (x := some a0) dX9_init_9 rfl rfl ?_
  refine am_iload_n (x := a2) dX9_init_10 rfl rfl ?_
  refine fx_p (k := 1) (v := .int a2) (f_putC inf_X9 (by decide) rfl rfl q2027 (Or.inr ⟨rfl, rfl, rfl⟩) f_put0) dX9_init_11 h (fun σ2 h => ?_)
  refine am_aloadr_n (x := some a0) dX9_init_14 rfl rfl ?_
  refine am_iload_n (x := a3) dX9_init_15 rfl rfl ?_
  refine fx_p (k := 2) (v := .int a3) (f_putC inf_X9 (by decide) rfl rfl q2030 (Or.inr ⟨rfl, rfl, rfl⟩) f_put0) dX9_init_16 h (fun σ3 h => ?_)
  refine am_aloadr_n (x := some a0) dX9_init_19 rfl rfl ?_
  refine am_aloadr (x := a4) dX9_init_20 rfl ?_
  refine fx_p (k := 3) (v := va_rf a4) (f_putC inf_X9 (by decide) (f_nrf _ _) (f_frf _ _) q2032 (Or.inr ⟨rfl, rfl, rfl⟩) f_put0) dX9_init_22 h (fun σ4 h => ?_)
  exact am_vret rfl dX9_init_25 h
