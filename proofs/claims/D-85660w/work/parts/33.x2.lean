set_option maxRecDepth 100000
/-! ===== PondHouse: what its blocks do (printed by tools/gx.py) ===== -/
theorem B_X0_pond_120_f {G : am_G} {d : Nat} {a0 : Nat} {s0 : Option Nat} {σ : am_S} {Q : Int32 → am_S → Prop} (h : f_o σ (some a0) [0] (fun b => W_X0_faulty G d b s0 σ (fun v1 σ2 => f_p σ2 (some a0) [0] 18 (.int 0) (fun σ5 => Q v1 σ5)))) : B_X0_pond_120 G (d + 1) a0 s0 σ Q := by
  unfold B_X0_pond_120
  refine am_astore_n (x := s0) (L' := [(2, va_rf s0), (0, va_rf (some a0))]) dX0_pond_120 rfl (Nat.le_of_ble_eq_true rfl) rfl ?_
  refine am_aloadr_n (x := some a0) dX0_pond_121 rfl rfl ?_
  refine am_aloadr_n (x := s0) dX0_pond_122 rfl rfl ?_
  refine fx_callV (Mc := m_X0_faulty) (as := [va_rf s0]) (cs := [0]) (r := (some a0)) (f_clsC inf_X0 qs71 f_cls0) bm_X0_faulty q2055 q2057 (Nat.le_of_ble_eq_true rfl) dX0_pond_123 h (fun b h => mt_X0_faulty (fx_k2i h (fun v1 σ2 h => ?_) (fun q σ' h => h.elim)))
  refine am_istore_n (L' := [(4, .int v1), (2, va_rf s0), (0, va_rf (some a0))]) dX0_pond_126 rfl (Nat.le_of_ble_eq_true rfl) rfl ?_
  refine am_aloadr_n (x := some a0) dX0_pond_127 rfl rfl ?_
  refine am_iconst (v := 0) dX0_pond_128 (by decide) ?_
  refine fx_p (k := 18) (v := .int 0) (f_putC inf_X0 (by decide) rfl rfl q1258 (Or.inl rfl) f_put0) dX0_pond_129 h (fun σ5 h => ?_)
  refine am_iload_n (x := v1) dX0_pond_132 rfl rfl ?_
  exact am_iret rfl dX0_pond_133 h
theorem B_X0_pond_134_f {G : am_G} {d : Nat} {a0 : Nat} {s0 : Option Nat} {σ : am_S} {Q : Int32 → am_S → Prop} (h : f_p σ (some a0) [0] 18 (.int 0) (fun σ1 => False)) : B_X0_pond_134 G (d + 1) a0 s0 σ Q := by
  unfold B_X0_pond_134
  refine am_astore_n (x := s0) (L' := [(6, va_rf s0), (0, va_rf (some a0))]) dX0_pond_134 rfl (Nat.le_of_ble_eq_true rfl) rfl ?_
  refine am_aloadr_n (x := some a0) dX0_pond_135 rfl rfl ?_
  refine am_iconst (v := 0) dX0_pond_136 (by decide) ?_
  refine fx_p (k := 18) (v := .int 0) (f_putC inf_X0 (by decide) rfl rfl q1258 (Or.inl rfl) f_put0) dX0_pond_137 h (fun σ1 h => ?_)
  refine am_aloadr_n (x := s0) dX0_pond_140 rfl rfl ?_
  exact h.elim
theorem W_X0_fine_f {G : am_G} {d : Nat} {a0 : Nat} {σ : am_S} {Q : am_S → Prop} (h : f_p σ (some a0) [0] 19 (.int 0) (fun σ1 => f_p σ1 (some a0) [0] 20 (.int (-1)) (fun σ2 => Q σ2))) : W_X0_fine G d a0 σ Q := by
  unfold W_X0_fine
  refine am_aloadr_n (x := some a0) dX0_fine_0 rfl rfl ?_
  refine am_iconst (v := 0) dX0_fine_1 (by decide) ?_
  refine fx_p (k := 19) (v := .int 0) (f_putC inf_X0 (by decide) rfl rfl q1259 (Or.inl rfl) f_put0) dX0_fine_2 h (fun σ1 h => ?_)
  refine am_aloadr_n (x := some a0) dX0_fine_5 rfl rfl ?_
  refine am_iconst (v := (-1)) dX0_fine_6 (by decide) ?_
  refine fx_p (k := 20) (v := .int (-1)) (f_putC inf_X0 (by decide) rfl rfl q1260 (Or.inl rfl) f_put0) dX0_fine_7 h (fun σ2 h => ?_)
  exact am_vret rfl dX0_fine_10 h
theorem W_X0_faulty_f {G : am_G} {d : Nat} {a0 : Nat} {a1 : Option Nat} {σ : am_S} {Q : Int32 → am_S → Prop} (h : f_gi σ a1 [3] 6 (fun v1 => f_p σ (some a0) [0] 19 (.int v1) (fun σ2 => f_gi σ2 a1 [3] 7 (fun v3 => f_p σ2 (some a0) [0] 20 (.int v3) (fun σ4 => Q (-1) σ4))))) : W_X0_faulty G d a0 a1 σ Q := by
  unfold W_X0_faulty
  refine am_aloadr_n (x := some a0) dX0_faulty_0 rfl rfl ?_
  refine am_aloadr_n (x := a1) dX0_faulty_1 rfl rfl ?_
  refine fx_gi (k := 6) (f_fldC (ref := "PondHouse$Fault") inf_X3 (by decide) q1165 (Or.inl rfl) f_fld0) dX0_faulty_2 h (fun v1 h => ?_)
  refine fx_p (k := 19) (v := .int v1) (f_putC inf_X0 (by decide) rfl rfl q1259 (Or.inl rfl) f_put0) dX0_faulty_5 h (fun σ2 h => ?_)
  refine am_aloadr_n (x := some a0) dX0_faulty_8 rfl rfl ?_
  refine am_aloadr_n (x := a1) dX0_faulty_9 rfl rfl ?_
  refine fx_gi (k := 7) (f_fldC (ref := "PondHouse$Fault") inf_X3 (by decide) q1166 (Or.inl rfl) f_fld0) dX0_faulty_10 h (fun v3 h => ?_)
  refine fx_p (k := 20) (v := .int v3) (f_putC inf_X0 (by decide) rfl rfl q1260 (Or.inl rfl) f_put0) dX0_faulty_13 h (fun σ4 h => ?_)
  refine am_iconst (v := (-1)) dX0_faulty_16 (by decide) ?_
  exact am_iret rfl dX0_faulty_17 h
theorem W_X0_patch_f {G : am_G} {d : Nat} {a0 : Nat} {σ : am_S} {Q : Int32 → am_S → Prop} (h : f_o σ (some a0) [0] (fun b => W_X0_fine G d b σ (fun σ2 => f_gi σ2 (some a0) [0] 25 (fun v5 => ((¬ v5 = 6 → f_gr σ2 (some a0) [0] 24 (fun v6 => f_gi σ2 (some a0) [0] 25 (fun v7 => f_new G σ2 24 3 tyX26 (fun n8 σ9 => f_gr σ9 (some a0) [0] 22 (fun v10 => f_o σ9 v10 [4] (fun b => W_X4_patch G d b σ9 (fun v11 σ12 => W_X26_init G d n8 v11 σ12 (fun σ16 => f_sr σ16 v6 14 [24] v7 (some n8) (fun σ19 => f_gi σ19 (some a0) [0] 25 (fun v20 => f_p σ19 (some a0) [0] 25 (.int (v20 + 1)) (fun σ21 => f_gi σ21 (some a0) [0] 25 (fun v22 => f_p σ21 (some a0) [0] 18 (.int 0) (fun σ23 => Q (v22 - 1) σ23))))))) (fun q14 σ13 => f_o σ13 (some q14) [3] (fun _ => B_X0_patch_69 G (d + 1) a0 (some q14) σ13 Q)))))))) ∧ (v5 = 6 → f_p σ2 (some a0) [0] 18 (.int 0) (fun σ24 => Q (-1) σ24))))))) : W_X0_patch G (d + 1) a0 σ Q := by
  unfold W_X0_patch
  refine am_aloadr_n (x := some a0) dX0_patch_0 rfl rfl ?_
  refine fx_callV (Mc := m_X0_fine) (as := []) (cs := [0]) (r := (some a0)) (f_clsC inf_X0 qs70 f_cls0) bm_X0_fine q2048 q2050 (Nat.le_of_ble_eq_true rfl) dX0_patch_1 h (fun b h => mt_X0_fine (fx_k2v h (fun σ2 h => ?_) (fun q σ' h => h.elim)))
  refine am_aloadr_n (x := some a0) dX0_patch_4 rfl rfl ?_
  refine fx_gi (k := 25) (f_fldC (ref := "PondHouse") inf_X0 (by decide) q1265 (Or.inl rfl) f_fld0) dX0_patch_5 h (fun v5 h => ?_)
  refine am_bipush (v := 6) dX0_patch_8 (by decide) ?_
  refine am_icmp_ne (tgt := 22) dX0_patch_10 (by decide) (fun c => ?_) (fun c => ?_)
  · have h := h.1 c
    refine am_aloadr_n (x := some a0) dX0_patch_22 rfl rfl ?_
    refine fx_gr (k := 24) (f_fldC (ref := "PondHouse") inf_X0 (by decide) q1264 (Or.inl rfl) f_fld0) dX0_patch_23 h (fun v6 h => ?_)
    refine am_aloadr_n (x := some a0) dX0_patch_26 rfl rfl ?_
    refine fx_gi (k := 25) (f_fldC (ref := "PondHouse") inf_X0 (by decide) q1265 (Or.inl rfl) f_fld0) dX0_patch_27 h (fun v7 h => ?_)
    refine fx_new inf_X26 q1228 q2063 q204 dX0_patch_30 h (fun n8 σ9 h => ?_)
    refine am_dup dX0_patch_33 (am_rf_cat _) ?_
    refine am_aloadr_n (x := some a0) dX0_patch_34 rfl rfl ?_
    refine fx_gr (k := 22) (f_fldC (ref := "PondHouse") inf_X0 (by decide) q1262 (Or.inl rfl) f_fld0) dX0_patch_35 h (fun v10 h => ?_)
    refine fx_callVN (Mc := m_X4_patch) (as := []) (cs := [4]) (r := v10) (f_clsC inf_X4 qs72 f_cls0) bm_X4_patch q2064 q2066 (Nat.le_of_ble_eq_true rfl) dX0_patch_38 h (fun b h => mt_X4_patch (fx_k2r h (fun v11 σ12 h => ?_) (fun q σ' h => ?_)))
    · refine fx_callI (Mc := m_X26_init) (as := [va_rf v11]) bm_X26_init q2211 q2212 rfl rfl (Nat.le_of_ble_eq_true rfl) dX0_patch_41 (mt_X26_init (fx_k2v h (fun σ16 h => ?_) (fun q σ' h => h.elim)))
      refine fx_sr (τ := 14) (E := "PondHouse$Patch") (cs := [24]) (v := (some n8)) rfl (f_clsC inf_X26 (Or.inl rfl) f_cls0) dX0_patch_44 h (fun σ19 h => ?_)
      refine am_aloadr_n (x := some a0) dX0_patch_45 rfl rfl ?_
      refine am_dup dX0_patch_46 (am_rf_cat _) ?_
      refine fx_gi (k := 25) (f_fldC (ref := "PondHouse") inf_X0 (by decide) q1265 (Or.inl rfl) f_fld0) dX0_patch_47 h (fun v20 h => ?_)
      refine am_iconst (v := 1) dX0_patch_50 (by decide) ?_
      refine am_iadd dX0_patch_51 ?_
      refine fx_p (k := 25) (v := .int (v20 + 1)) (f_putC inf_X0 (by decide) rfl rfl q1265 (Or.inl rfl) f_put0) dX0_patch_52 h (fun σ21 h => ?_)
      refine am_aloadr_n (x := some a0) dX0_patch_55 rfl rfl ?_
      refine fx_gi (k := 25) (f_fldC (ref := "PondHouse") inf_X0 (by decide) q1265 (Or.inl rfl) f_fld0) dX0_patch_56 h (fun v22 h => ?_)
      refine am_iconst (v := 1) dX0_patch_59 (by decide) ?_
      refine am_isub dX0_patch_60 ?_
      refine am_istore_n (L' := [(2, .int (v22 - 1)), (0, va_rf (some a0))]) dX0_patch_61 rfl (Nat.le_of_ble_eq_true rfl) rfl ?_
      refine am_aloadr_n (x := some a0) dX0_patch_62 rfl rfl ?_
      refine am_iconst (v := 0) dX0_patch_63 (by decide) ?_
      refine fx_p (k := 18) (v := .int 0) (f_putC inf_X0 (by decide) rfl rfl q1258 (Or.inl rfl) f_put0) dX0_patch_64 h (fun σ23 h => ?_)
      refine am_iload_n (x := (v22 - 1)) dX0_patch_67 rfl rfl ?_
      exact am_iret rfl dX0_patch_68 h
    · refine fx_catch [{ startPc := 0, endPc := 15, handlerPc := 69, catchType := 142 }] [{ startPc := 0, endPc := 15, handlerPc := 83, catchType := 0 }, { startPc := 22, endPc := 62, handlerPc := 83, catchType := 0 }, { startPc := 69, endPc := 76, handlerPc := 83, catchType := 0 }] { startPc := 22, endPc := 62, handlerPc := 69, catchType := 142 } inf_X3 (by decide +kernel) (by decide +kernel) (by decide +kernel) (by decide) q1152 (Or.inr rfl) h (fun h => ?_)
      exact am_lss h rfl
  · have h := h.2 c
    refine am_iconst (v := (-1)) dX0_patch_13 (by decide) ?_
    refine am_istore_n (L' := [(2, .int (-1)), (0, va_rf (some a0))]) dX0_patch_14 rfl (Nat.le_of_ble_eq_true rfl) rfl ?_
    refine am_aloadr_n (x := some a0) dX0_patch_15 rfl rfl ?_
    refine am_iconst (v := 0) dX0_patch_16 (by decide) ?_
    refine fx_p (k := 18) (v := .int 0) (f_putC inf_X0 (by decide) rfl rfl q1258 (Or.inl rfl) f_put0) dX0_patch_17 h (fun σ24 h => ?_)
    refine am_iload_n (x := (-1)) dX0_patch_20 rfl rfl ?_
    exact am_iret rfl dX0_patch_21 h
theorem B_X0_patch_69_f {G : am_G} {d : Nat} {a0 : Nat} {s0 : Option Nat} {σ : am_S} {Q : Int32 → am_S → Prop} (h : f_o σ (some a0) [0] (fun b => W_X0_faulty G d b s0 σ (fun v1 σ2 => f_p σ2 (some a0) [0] 18 (.int 0) (fun σ5 => Q v1 σ5)))) : B_X0_patch_69 G (d + 1) a0 s0 σ Q := by
  unfold B_X0_patch_69
  refine am_astore_n (x := s0) (L' := [(2, va_rf s0), (0, va_rf (some a0))]) dX0_patch_69 rfl (Nat.le_of_ble_eq_true rfl) rfl ?_
  refine am_aloadr_n (x := some a0) dX0_patch_70 rfl rfl ?_
  refine am_aloadr_n (x := s0) dX0_patch_71 rfl rfl ?_
  refine fx_callV (Mc := m_X0_faulty) (as := [va_rf s0]) (cs := [0]) (r := (some a0)) (f_clsC inf_X0 qs71 f_cls0) bm_X0_faulty q2055 q2057 (Nat.le_of_ble_eq_true rfl) dX0_patch_72 h (fun b h => mt_X0_faulty (fx_k2i h (fun v1 σ2 h => ?_) (fun q σ' h => h.elim)))
  refine am_istore_n (L' := [(4, .int v1), (2, va_rf s0), (0, va_rf (some a0))]) dX0_patch_75 rfl (Nat.le_of_ble_eq_true rfl) rfl ?_
  refine am_aloadr_n (x := some a0) dX0_patch_76 rfl rfl ?_
  refine am_iconst (v := 0) dX0_patch_77 (by decide) ?_
  refine fx_p (k := 18) (v := .int 0) (f_putC inf_X0 (by decide) rfl rfl q1258 (Or.inl rfl) f_put0) dX0_patch_78 h (fun σ5 h => ?_)
  refine am_iload_n (x := v1) dX0_patch_81 rfl rfl ?_
  exact am_iret rfl dX0_patch_82 h
theorem B_X0_patch_83_f {G : am_G} {d : Nat} {a0 : Nat} {s0 : Option Nat} {σ : am_S} {Q : Int32 → am_S → Prop} (h : f_p σ (some a0) [0] 18 (.int 0) (fun σ1 => False)) : B_X0_patch_83 G (d + 1) a0 s0 σ Q := by
  unfold B_X0_patch_83
  refine am_astore_n (x := s0) (L' := [(6, va_rf s0), (0, va_rf (some a0))]) dX0_patch_83 rfl (Nat.le_of_ble_eq_true rfl) rfl ?_
  refine am_aloadr_n (x := some a0) dX0_patch_84 rfl rfl ?_
  refine am_iconst (v := 0) dX0_patch_85 (by decide) ?_
  refine fx_p (k := 18) (v := .int 0) (f_putC inf_X0 (by decide) rfl rfl q1258 (Or.inl rfl) f_put0) dX0_patch_86 h (fun σ1 h => ?_)
  refine am_aloadr_n (x := s0) dX0_patch_89 rfl rfl ?_
  exact h.elim
theorem W_X0_fault_f {G : am_G} {d : Nat} {a0 : Nat} {a1 : Int32} {σ : am_S} {Q : Int32 → am_S → Prop} (h : ((¬ a1 = 0 → ((¬ a1 = 1 → Q (-1) σ) ∧ (a1 = 1 → f_gi σ (some a0) [0] 20 (fun v1 => Q v1 σ)))) ∧ (a1 = 0 → f_gi σ (some a0) [0] 19 (fun v2 => Q v2 σ)))) : W_X0_fault G d a0 a1 σ Q := by
  unfold W_X0_fault
  refine am_iload_n (x := a1) dX0_fault_0 rfl rfl ?_
  refine am_if_ne (tgt := 11) dX0_fault_1 (by decide) (fun c => ?_) (fun c => ?_)
  · have h := h.1 c
    refine am_iload_n (x := a1) dX0_fault_11 rfl rfl ?_
    refine am_iconst (v := 1) dX0_fault_12 (by decide) ?_
    refine am_icmp_ne (tgt := 23) dX0_fault_13 (by decide) (fun c => ?_) (fun c => ?_)
    · have h := h.1 c
      refine am_iconst (v := (-1)) dX0_fault_23 (by decide) ?_
      exact am_iret rfl dX0_fault_24 h
    · have h := h.2 c
      refine am_aloadr_n (x := some a0) dX0_fault_16 rfl rfl ?_
      refine fx_gi (k := 20) (f_fldC (ref := "PondHouse") inf_X0 (by decide) q1260 (Or.inl rfl) f_fld0) dX0_fault_17 h (fun v1 h => ?_)
      refine am_goto (tgt := 24) dX0_fault_20 (by decide) ?_
      exact am_iret rfl dX0_fault_24 h
  · have h := h.2 c
    refine am_aloadr_n (x := some a0) dX0_fault_4 rfl rfl ?_
    refine fx_gi (k := 19) (f_fldC (ref := "PondHouse") inf_X0 (by decide) q1259 (Or.inl rfl) f_fld0) dX0_fault_5 h (fun v2 h => ?_)
    refine am_goto (tgt := 24) dX0_fault_8 (by decide) ?_
    exact am_iret rfl dX0_fault_24 h
theorem W_X0_kinds_f {G : am_G} {d : Nat} {a0 : Nat} {σ : am_S} {Q : Int32 → am_S → Prop} (h : f_gr σ (some a0) [0] 3 (fun v1 => f_al σ v1 9 (fun v2 => Q v2 σ))) : W_X0_kinds G d a0 σ Q := by
  unfold W_X0_kinds
  refine am_aloadr_n (x := some a0) dX0_kinds_0 rfl rfl ?_
  refine fx_gr (k := 3) (f_fldC (ref := "PondHouse") inf_X0 (by decide) q1240 (Or.inl rfl) f_fld0) dX0_kinds_1 h (fun v1 h => ?_)
  refine fx_al (τ := 9) rfl dX0_kinds_4 h (fun v2 h => ?_)
  exact am_iret rfl dX0_kinds_5 h
theorem W_X0_kind_f {G : am_G} {d : Nat} {a0 : Nat} {a1 : Int32} {a2 : Int32} {σ : am_S} {Q : Int32 → am_S → Prop} (h : ((a1 < 0 → Q (-1) σ) ∧ (¬ a1 < 0 → f_gr σ (some a0) [0] 3 (fun v1 => f_al σ v1 9 (fun v2 => ((a1 < v2 → f_gr σ (some a0) [0] 3 (fun v3 => f_ar σ v3 9 a1 (fun v4 => ((a2 = 0 → f_gi σ v4 [21] 0 (fun v5 => Q v5 σ)) ∧ (a2 = 1 → f_gr σ v4 [21] 2 (fun v6 => ((¬ v6 = none → f_gr σ v4 [21] 2 (fun v7 => f_gi σ v7 [21] 0 (fun v8 => Q v8 σ))) ∧ (v6 = none → Q (-1) σ)))) ∧ (a2 = 2 → f_gi σ v4 [21] 1 (fun v9 => Q v9 σ)) ∧ (a2 = 3 → f_gr σ v4 [21] 3 (fun v10 => f_al σ v10 0 (fun v11 => Q v11 σ))) ∧ (a2 = 4 → f_gr σ v4 [21] 5 (fun v12 => f_al σ v12 0 (fun v13 => Q v13 σ))) ∧ (a2 = 5 → f_gr σ v4 [21] 8 (fun v14 => f_al σ v14 8 (fun v15 => Q v15 σ))) ∧ (((a2 : Int32).toInt < 0 ∨ 5 < (a2 : Int32).toInt) → Q (-1) σ))))) ∧ (¬ a1 < v2 → Q (-1) σ))))))) : W_X0_kind G d a0 a1 a2 σ Q := by
  unfold W_X0_kind
  refine am_iload_n (x := a1) dX0_kind_0 rfl rfl ?_
  refine am_if_lt (tgt := 13) dX0_kind_1 (by decide) (fun c => ?_) (fun c => ?_)
  · have h := h.1 c
    refine am_iconst (v := (-1)) dX0_kind_13 (by decide) ?_
    exact am_iret rfl dX0_kind_14 h
  · have h := h.2 c
    refine am_iload_n (x := a1) dX0_kind_4 rfl rfl ?_
    refine am_aloadr_n (x := some a0) dX0_kind_5 rfl rfl ?_
    refine fx_gr (k := 3) (f_fldC (ref := "PondHouse") inf_X0 (by decide) q1240 (Or.inl rfl) f_fld0) dX0_kind_6 h (fun v1 h => ?_)
    refine fx_al (τ := 9) rfl dX0_kind_9 h (fun v2 h => ?_)
    refine am_icmp_lt (tgt := 15) dX0_kind_10 (by decide) (fun c => ?_) (fun c => ?_)
    · have h := h.1 c
      refine am_aloadr_n (x := some a0) dX0_kind_15 rfl rfl ?_
      refine fx_gr (k := 3) (f_fldC (ref := "PondHouse") inf_X0 (by decide) q1240 (Or.inl rfl) f_fld0) dX0_kind_16 h (fun v3 h => ?_)
      refine am_iload_n (x := a1) dX0_kind_19 rfl rfl ?_
      refine fx_ar (τ := 9) rfl rfl dX0_kind_20 h (fun v4 h => ?_)
      refine am_astore_n (x := v4) (L' := [(6, va_rf v4), (0, va_rf (some a0)), (2, .int a1), (4, .int a2)]) dX0_kind_21 rfl (Nat.le_of_ble_eq_true rfl) rfl ?_
      refine am_iload_n (x := a2) dX0_kind_22 rfl rfl ?_
      by_cases c : (a2 : Int32).toInt < 0 ∨ 5 < (a2 : Int32).toInt
      · have h := h.2.2.2.2.2.2 c
        refine am_tableOut (tgt := 107) dX0_kind_23 c (by decide) ?_
        refine am_iconst (v := (-1)) dX0_kind_107 (by decide) ?_
        exact am_iret rfl dX0_kind_108 h
      · obtain ⟨j, hj, e⟩ := am_tab (lo := 0) (n := 6) c
        match j, hj, e with
        | 0, hj, e =>
          have c : (a2 : Int32) = 0 := Int32.toInt_inj.mp (e.trans (by decide))
          have h := h.1 c
          refine am_tableIn (tgt := 60) dX0_kind_23 (by rw [c]; decide) (by rw [c]; decide) (by rw [c]; rfl) (by decide) ?_
          refine am_aloadr_n (x := v4) dX0_kind_60 rfl rfl ?_
          refine fx_gi (k := 0) (f_fldC (ref := "PondHouse$Kind") inf_X23 (by decide) q907 (Or.inl rfl) f_fld0) dX0_kind_61 h (fun v5 h => ?_)
          exact am_iret rfl dX0_kind_64 h
        | 1, hj, e =>
          have c : (a2 : Int32) = 1 := Int32.toInt_inj.mp (e.trans (by decide))
          have h := h.2.1 c
          refine am_tableIn (tgt := 65) dX0_kind_23 (by rw [c]; decide) (by rw [c]; decide) (by rw [c]; rfl) (by decide) ?_
          refine am_aloadr_n (x := v4) dX0_kind_65 rfl rfl ?_
          refine fx_gr (k := 2) (f_fldC (ref := "PondHouse$Kind") inf_X23 (by decide) q913 (Or.inl rfl) f_fld0) dX0_kind_66 h (fun v6 h => ?_)
          refine am_ifnonnullr (tgt := 76) dX0_kind_69 (by decide) (fun c => ?_) (fun c => ?_)
          · have h := h.1 c
            refine am_aloadr_n (x := v4) dX0_kind_76 rfl rfl ?_
            refine fx_gr (k := 2) (f_fldC (ref := "PondHouse$Kind") inf_X23 (by decide) q913 (Or.inl rfl) f_fld0) dX0_kind_77 h (fun v7 h => ?_)
            refine fx_gi (k := 0) (f_fldC (ref := "PondHouse$Kind") inf_X23 (by decide) q907 (Or.inl rfl) f_fld0) dX0_kind_80 h (fun v8 h => ?_)
            exact am_iret rfl dX0_kind_83 h
          · have h := h.2 c
            refine am_iconst (v := (-1)) dX0_kind_72 (by decide) ?_
            refine am_goto (tgt := 83) dX0_kind_73 (by decide) ?_
            exact am_iret rfl dX0_kind_83 h
        | 2, hj, e =>
          have c : (a2 : Int32) = 2 := Int32.toInt_inj.mp (e.trans (by decide))
          have h := h.2.2.1 c
          refine am_tableIn (tgt := 84) dX0_kind_23 (by rw [c]; decide) (by rw [c]; decide) (by rw [c]; rfl) (by decide) ?_
          refine am_aloadr_n (x := v4) dX0_kind_84 rfl rfl ?_
          refine fx_gi (k := 1) (f_fldC (ref := "PondHouse$Kind") inf_X23 (by decide) q909 (Or.inl rfl) f_fld0) dX0_kind_85 h (fun v9 h => ?_)
          exact am_iret rfl dX0_kind_88 h
        | 3, hj, e =>
          have c : (a2 : Int32) = 3 := Int32.toInt_inj.mp (e.trans (by decide))
          have h := h.2.2.2.1 c
          refine am_tableIn (tgt := 89) dX0_kind_23 (by rw [c]; decide) (by rw [c]; decide) (by rw [c]; rfl) (by decide) ?_
          refine am_aloadr_n (x := v4) dX0_kind_89 rfl rfl ?_
          refine fx_gr (k := 3) (f_fldC (ref := "PondHouse$Kind") inf_X23 (by decide) q916 (Or.inl rfl) f_fld0) dX0_kind_90 h (fun v10 h => ?_)
          refine fx_al (τ := 0) rfl dX0_kind_93 h (fun v11 h => ?_)
          exact am_iret rfl dX0_kind_94 h
        | 4, hj, e =>
          have c : (a2 : Int32) = 4 := Int32.toInt_inj.mp (e.trans (by decide))
          have h := h.2.2.2.2.1 c
          refine am_tableIn (tgt := 95) dX0_kind_23 (by rw [c]; decide) (by rw [c]; decide) (by rw [c]; rfl) (by decide) ?_
          refine am_aloadr_n (x := v4) dX0_kind_95 rfl rfl ?_
          refine fx_gr (k := 5) (f_fldC (ref := "PondHouse$Kind") inf_X23 (by decide) q921 (Or.inl rfl) f_fld0) dX0_kind_96 h (fun v12 h => ?_)
          refine fx_al (τ := 0) rfl dX0_kind_99 h (fun v13 h => ?_)
          exact am_iret rfl dX0_kind_100 h
        | 5, hj, e =>
          have c : (a2 : Int32) = 5 := Int32.toInt_inj.mp (e.trans (by decide))
          have h := h.2.2.2.2.2.1 c
          refine am_tableIn (tgt := 101) dX0_kind_23 (by rw [c]; decide) (by rw [c]; decide) (by rw [c]; rfl) (by decide) ?_
          refine am_aloadr_n (x := v4) dX0_kind_101 rfl rfl ?_
          refine fx_gr (k := 8) (f_fldC (ref := "PondHouse$Kind") inf_X23 (by decide) q928 (Or.inl rfl) f_fld0) dX0_kind_102 h (fun v14 h => ?_)
          refine fx_al (τ := 8) rfl dX0_kind_105 h (fun v15 h => ?_)
          exact am_iret rfl dX0_kind_106 h
        | j + 6, hj, e => exact absurd hj (by omega)
    · have h := h.2 c
      refine am_iconst (v := (-1)) dX0_kind_13 (by decide) ?_
      exact am_iret rfl dX0_kind_14 h
theorem W_X0_create_f {G : am_G} {d : Nat} {a0 : Nat} {a1 : Int32} {σ : am_S} {Q : Int32 → am_S → Prop} (h : f_gr σ (some a0) [0] 3 (fun v1 => W_X0_find G d v1 a1 σ (fun v2 σ3 => ((v2 = (-1) → Q (-1) σ3) ∧ (¬ v2 = (-1) → f_gi σ3 (some a0) [0] 6 (fun v6 => ((¬ v6 = 40 → f_gr σ3 (some a0) [0] 5 (fun v7 => f_gi σ3 (some a0) [0] 6 (fun v8 => f_new G σ3 31 6 tyX34 (fun n9 σ10 => f_gi σ10 (some a0) [0] 6 (fun v11 => f_gr σ10 (some a0) [0] 3 (fun v12 => f_ar σ10 v12 9 v2 (fun v13 => W_X34_init G d n9 (some a0) v11 v13 σ10 (fun σ15 => f_sr σ15 v7 12 [31] v8 (some n9) (fun σ18 => f_gr σ18 (some a0) [0] 38 (fun v19 => f_gi σ18 (some a0) [0] 6 (fun v20 => f_si σ18 v19 0 v20 3 (fun σ21 => f_gi σ21 (some a0) [0] 6 (fun v22 => f_p σ21 (some a0) [0] 6 (.int (v22 + 1)) (fun σ23 => f_gi σ23 (some a0) [0] 6 (fun v24 => Q (v24 - 1) σ23))))))))))))))) ∧ (v6 = 40 → Q (-1) σ3)))))))) : W_X0_create G (d + 1) a0 a1 σ Q := by
  unfold W_X0_create
  refine am_aloadr_n (x := some a0) dX0_create_0 rfl rfl ?_
  refine fx_gr (k := 3) (f_fldC (ref := "PondHouse") inf_X0 (by decide) q1240 (Or.inl rfl) f_fld0) dX0_create_1 h (fun v1 h => ?_)
  refine am_iload_n (x := a1) dX0_create_4 rfl rfl ?_
  refine fx_callS (Mc := m_X0_find) (as := [va_rf v1, .int a1]) bm_X0_find q218 q219 (Nat.le_of_ble_eq_true rfl) dX0_create_5 (mt_X0_find (fx_k2i h (fun v2 σ3 h => ?_) (fun q σ' h => h.elim)))
  refine am_istore_n (L' := [(4, .int v2), (0, va_rf (some a0)), (2, .int a1)]) dX0_create_8 rfl (Nat.le_of_ble_eq_true rfl) rfl ?_
  refine am_iload_n (x := v2) dX0_create_9 rfl rfl ?_
  refine am_iconst (v := (-1)) dX0_create_10 (by decide) ?_
  refine am_icmp_eq (tgt := 23) dX0_create_11 (by decide) (fun c => ?_) (fun c => ?_)
  · have h := h.1 c
    refine am_iconst (v := (-1)) dX0_create_23 (by decide) ?_
    exact am_iret rfl dX0_create_24 h
  · have h := h.2 c
    refine am_aloadr_n (x := some a0) dX0_create_14 rfl rfl ?_
    refine fx_gi (k := 6) (f_fldC (ref := "PondHouse") inf_X0 (by decide) q1243 (Or.inl rfl) f_fld0) dX0_create_15 h (fun v6 h => ?_)
    refine am_bipush (v := 40) dX0_create_18 (by decide) ?_
    refine am_icmp_ne (tgt := 25) dX0_create_20 (by decide) (fun c => ?_) (fun c => ?_)
    · have h := h.1 c
      refine am_aloadr_n (x := some a0) dX0_create_25 rfl rfl ?_
      refine fx_gr (k := 5) (f_fldC (ref := "PondHouse") inf_X0 (by decide) q1242 (Or.inl rfl) f_fld0) dX0_create_26 h (fun v7 h => ?_)
      refine am_aloadr_n (x := some a0) dX0_create_29 rfl rfl ?_
      refine fx_gi (k := 6) (f_fldC (ref := "PondHouse") inf_X0 (by decide) q1243 (Or.inl rfl) f_fld0) dX0_create_30 h (fun v8 h => ?_)
      refine fx_new inf_X34 q1082 q2242 q212 dX0_create_33 h (fun n9 σ10 h => ?_)
      refine am_dup dX0_create_36 (am_rf_cat _) ?_
      refine am_aloadr_n (x := some a0) dX0_create_37 rfl rfl ?_
      refine am_aloadr_n (x := some a0) dX0_create_38 rfl rfl ?_
      refine fx_gi (k := 6) (f_fldC (ref := "PondHouse") inf_X0 (by decide) q1243 (Or.inl rfl) f_fld0) dX0_create_39 h (fun v11 h => ?_)
      refine am_aloadr_n (x := some a0) dX0_create_42 rfl rfl ?_
      refine fx_gr (k := 3) (f_fldC (ref := "PondHouse") inf_X0 (by decide) q1240 (Or.inl rfl) f_fld0) dX0_create_43 h (fun v12 h => ?_)
      refine am_iload_n (x := v2) dX0_create_46 rfl rfl ?_
      refine fx_ar (τ := 9) rfl rfl dX0_create_47 h (fun v13 h => ?_)
      refine fx_callI (Mc := m_X34_init) (as := [va_rf (some a0), .int v11, va_rf v13]) bm_X34_init q2243 q2244 rfl rfl (Nat.le_of_ble_eq_true rfl) dX0_create_48 (mt_X34_init (fx_k2v h (fun σ15 h => ?_) (fun q σ' h => h.elim)))
      refine fx_sr (τ := 12) (E := "PondHouse$Creature") (cs := [31]) (v := (some n9)) rfl (f_clsC inf_X34 (Or.inl rfl) f_cls0) dX0_create_51 h (fun σ18 h => ?_)
      refine am_aloadr_n (x := some a0) dX0_create_52 rfl rfl ?_
      refine fx_gr (k := 38) (f_fldC (ref := "PondHouse") inf_X0 (by decide) q1278 (Or.inl rfl) f_fld0) dX0_create_53 h (fun v19 h => ?_)
      refine am_aloadr_n (x := some a0) dX0_create_56 rfl rfl ?_
      refine fx_gi (k := 6) (f_fldC (ref := "PondHouse") inf_X0 (by decide) q1243 (Or.inl rfl) f_fld0) dX0_create_57 h (fun v20 h => ?_)
      refine am_iconst (v := 3) dX0_create_60 (by decide) ?_
      refine fx_si0 dX0_create_61 h (fun σ21 h => ?_)
      refine am_aloadr_n (x := some a0) dX0_create_62 rfl rfl ?_
      refine am_dup dX0_create_63 (am_rf_cat _) ?_
      refine fx_gi (k := 6) (f_fldC (ref := "PondHouse") inf_X0 (by decide) q1243 (Or.inl rfl) f_fld0) dX0_create_64 h (fun v22 h => ?_)
      refine am_iconst (v := 1) dX0_create_67 (by decide) ?_
      refine am_iadd dX0_create_68 ?_
      refine fx_p (k := 6) (v := .int (v22 + 1)) (f_putC inf_X0 (by decide) rfl rfl q1243 (Or.inl rfl) f_put0) dX0_create_69 h (fun σ23 h => ?_)
      refine am_aloadr_n (x := some a0) dX0_create_72 rfl rfl ?_
      refine fx_gi (k := 6) (f_fldC (ref := "PondHouse") inf_X0 (by decide) q1243 (Or.inl rfl) f_fld0) dX0_create_73 h (fun v24 h => ?_)
      refine am_iconst (v := 1) dX0_create_76 (by decide) ?_
      refine am_isub dX0_create_77 ?_
      exact am_iret rfl dX0_create_78 h
    · have h := h.2 c
      refine am_iconst (v := (-1)) dX0_create_23 (by decide) ?_
      exact am_iret rfl dX0_create_24 h
theorem W_X0_kindOf_f {G : am_G} {d : Nat} {a0 : Nat} {a1 : Int32} {σ : am_S} {Q : Int32 → am_S → Prop} (h : f_o σ (some a0) [0] (fun b => W_X0_living G d b a1 σ (fun v1 σ2 => ((¬ v1 = none → f_gr σ2 v1 [31] 1 (fun v5 => f_gi σ2 v5 [21] 0 (fun v6 => Q v6 σ2))) ∧ (v1 = none → Q (-1) σ2))))) : W_X0_kindOf G (d + 1) a0 a1 σ Q := by
  unfold W_X0_kindOf
  refine am_aloadr_n (x := some a0) dX0_kindOf_0 rfl rfl ?_
  refine am_iload_n (x := a1) dX0_kindOf_1 rfl rfl ?_
  refine fx_callV (Mc := m_X0_living) (as := [.int a1]) (cs := [0]) (r := (some a0)) (f_clsC inf_X0 qs4 f_cls0) bm_X0_living q287 q289 (Nat.le_of_ble_eq_true rfl) dX0_kindOf_2 h (fun b h => mt_X0_living (fx_k2r h (fun v1 σ2 h => ?_) (fun q σ' h => h.elim)))
  refine am_astore_n (x := v1) (L' := [(4, va_rf v1), (0, va_rf (some a0)), (2, .int a1)]) dX0_kindOf_5 rfl (Nat.le_of_ble_eq_true rfl) rfl ?_
  refine am_aloadr_n (x := v1) dX0_kindOf_6 rfl rfl ?_
  refine am_ifnonnullr (tgt := 14) dX0_kindOf_7 (by decide) (fun c => ?_) (fun c => ?_)
  · have h := h.1 c
    refine am_aloadr_n (x := v1) dX0_kindOf_14 rfl rfl ?_
    refine fx_gr (k := 1) (f_fldC (ref := "PondHouse$Creature") inf_X34 (by decide) q2253 (Or.inl rfl) f_fld0) dX0_kindOf_15 h (fun v5 h => ?_)
    refine fx_gi (k := 0) (f_fldC (ref := "PondHouse$Kind") inf_X23 (by decide) q907 (Or.inl rfl) f_fld0) dX0_kindOf_18 h (fun v6 h => ?_)
    exact am_iret rfl dX0_kindOf_21 h
  · have h := h.2 c
    refine am_iconst (v := (-1)) dX0_kindOf_10 (by decide) ?_
    refine am_goto (tgt := 21) dX0_kindOf_11 (by decide) ?_
    exact am_iret rfl dX0_kindOf_21 h
theorem W_X0_generation_f {G : am_G} {d : Nat} {a0 : Nat} {a1 : Int32} {σ : am_S} {Q : Int32 → am_S → Prop} (h : f_o σ (some a0) [0] (fun b => W_X0_living G d b a1 σ (fun v1 σ2 => ((¬ v1 = none → f_gr σ2 v1 [31] 1 (fun v5 => f_gi σ2 v5 [21] 1 (fun v6 => Q v6 σ2))) ∧ (v1 = none → Q (-1) σ2))))) : W_X0_generation G (d + 1) a0 a1 σ Q := by
  unfold W_X0_generation
  refine am_aloadr_n (x := some a0) dX0_generation_0 rfl rfl ?_
  refine am_iload_n (x := a1) dX0_generation_1 rfl rfl ?_
  refine fx_callV (Mc := m_X0_living) (as := [.int a1]) (cs := [0]) (r := (some a0)) (f_clsC inf_X0 qs4 f_cls0) bm_X0_living q287 q289 (Nat.le_of_ble_eq_true rfl) dX0_generation_2 h (fun b h => mt_X0_living (fx_k2r h (fun v1 σ2 h => ?_) (fun q σ' h => h.elim)))
  refine am_astore_n (x := v1) (L' := [(4, va_rf v1), (0, va_rf (some a0)), (2, .int a1)]) dX0_generation_5 rfl (Nat.le_of_ble_eq_true rfl) rfl ?_
  refine am_aloadr_n (x := v1) dX0_generation_6 rfl rfl ?_
  refine am_ifnonnullr (tgt := 14) dX0_generation_7 (by decide) (fun c => ?_) (fun c => ?_)
  · have h := h.1 c
    refine am_aloadr_n (x := v1) dX0_generation_14 rfl rfl ?_
    refine fx_gr (k := 1) (f_fldC (ref := "PondHouse$Creature") inf_X34 (by decide) q2253 (Or.inl rfl) f_fld0) dX0_generation_15 h (fun v5 h => ?_)
    refine fx_gi (k := 1) (f_fldC (ref := "PondHouse$Kind") inf_X23 (by decide) q909 (Or.inl rfl) f_fld0) dX0_generation_18 h (fun v6 h => ?_)
    exact am_iret rfl dX0_generation_21 h
  · have h := h.2 c
    refine am_iconst (v := (-1)) dX0_generation_10 (by decide) ?_
    refine am_goto (tgt := 21) dX0_generation_11 (by decide) ?_
    exact am_iret rfl dX0_generation_21 h
theorem W_X0_has_3_f {G : am_G} {d : Nat} {a0 : Nat} {a1 : Int32} {a2 : Int32} {σ : am_S} {Q : Int32 → am_S → Prop} (h : f_o σ (some a0) [0] (fun b => W_X0_living G d b a1 σ (fun v1 σ2 => ((v1 = none → Q 0 σ2) ∧ (¬ v1 = none → f_gr σ2 v1 [31] 1 (fun v5 => f_o σ2 v5 [21] (fun b => W_X23_place G d b a2 σ2 (fun v6 σ7 => ((v6 = (-1) → Q 0 σ7) ∧ (¬ v6 = (-1) → Q 1 σ7)))))))))) : W_X0_has_3 G (d + 1) a0 a1 a2 σ Q := by
  unfold W_X0_has_3
  refine am_aloadr_n (x := some a0) dX0_has_3_0 rfl rfl ?_
  refine am_iload_n (x := a1) dX0_has_3_1 rfl rfl ?_
  refine fx_callV (Mc := m_X0_living) (as := [.int a1]) (cs := [0]) (r := (some a0)) (f_clsC inf_X0 qs4 f_cls0) bm_X0_living q287 q289 (Nat.le_of_ble_eq_true rfl) dX0_has_3_2 h (fun b h => mt_X0_living (fx_k2r h (fun v1 σ2 h => ?_) (fun q σ' h => h.elim)))
  refine am_astore_n (x := v1) (L' := [(6, va_rf v1), (0, va_rf (some a0)), (2, .int a1), (4, .int a2)]) dX0_has_3_5 rfl (Nat.le_of_ble_eq_true rfl) rfl ?_
  refine am_aloadr_n (x := v1) dX0_has_3_6 rfl rfl ?_
  refine am_ifnullr (tgt := 26) dX0_has_3_7 (by decide) (fun c => ?_) (fun c => ?_)
  · have h := h.1 c
    refine am_iconst (v := 0) dX0_has_3_26 (by decide) ?_
    exact am_zret rfl rfl dX0_has_3_27 h
  · have h := h.2 c
    refine am_aloadr_n (x := v1) dX0_has_3_10 rfl rfl ?_
    refine fx_gr (k := 1) (f_fldC (ref := "PondHouse$Creature") inf_X34 (by decide) q2253 (Or.inl rfl) f_fld0) dX0_has_3_11 h (fun v5 h => ?_)
    refine am_iload_n (x := a2) dX0_has_3_14 rfl rfl ?_
    refine fx_callV (Mc := m_X23_place) (as := [.int a2]) (cs := [21]) (r := v5) (f_clsC inf_X23 q258 f_cls0) bm_X23_place q256 q257 (Nat.le_of_ble_eq_true rfl) dX0_has_3_15 h (fun b h => mt_X23_place (fx_k2i h (fun v6 σ7 h => ?_) (fun q σ' h => h.elim)))
    refine am_iconst (v := (-1)) dX0_has_3_18 (by decide) ?_
    refine am_icmp_eq (tgt := 26) dX0_has_3_19 (by decide) (fun c => ?_) (fun c => ?_)
    · have h := h.1 c
      refine am_iconst (v := 0) dX0_has_3_26 (by decide) ?_
      exact am_zret rfl rfl dX0_has_3_27 h
    · have h := h.2 c
      refine am_iconst (v := 1) dX0_has_3_22 (by decide) ?_
      refine am_goto (tgt := 27) dX0_has_3_23 (by decide) ?_
      exact am_zret rfl rfl dX0_has_3_27 h
theorem W_X0_value_f {G : am_G} {d : Nat} {a0 : Nat} {a1 : Int32} {a2 : Int32} {σ : am_S} {Q : Int32 → am_S → Prop} (h : f_o σ (some a0) [0] (fun b => W_X0_living G d b a1 σ (fun v1 σ2 => ((v1 = none → Q 0 σ2) ∧ (¬ v1 = none → ((a2 < 0 → Q 0 σ2) ∧ (¬ a2 < 0 → ((a2 < 40 → f_gr σ2 v1 [31] 1 (fun v5 => f_o σ2 v5 [21] (fun b => W_X23_place G d b a2 σ2 (fun v6 σ7 => ((v6 = (-1) → f_gr σ7 v1 [31] 4 (fun v10 => f_ai σ7 v10 3 a2 (fun v11 => ((v11 = 0 → Q 0 σ7) ∧ (¬ v11 = 0 → f_gr σ7 v1 [31] 3 (fun v12 => f_ai σ7 v12 0 a2 (fun v13 => Q v13 σ7))))))) ∧ (¬ v6 = (-1) → f_gr σ7 v1 [31] 2 (fun v14 => f_ai σ7 v14 0 v6 (fun v15 => Q v15 σ7)))))))) ∧ (¬ a2 < 40 → Q 0 σ2))))))))) : W_X0_value G (d + 1) a0 a1 a2 σ Q := by
  unfold W_X0_value
  refine am_aloadr_n (x := some a0) dX0_value_0 rfl rfl ?_
  refine am_iload_n (x := a1) dX0_value_1 rfl rfl ?_
  refine fx_callV (Mc := m_X0_living) (as := [.int a1]) (cs := [0]) (r := (some a0)) (f_clsC inf_X0 qs4 f_cls0) bm_X0_living q287 q289 (Nat.le_of_ble_eq_true rfl) dX0_value_2 h (fun b h => mt_X0_living (fx_k2r h (fun v1 σ2 h => ?_) (fun q σ' h => h.elim)))
  refine am_astore_n (x := v1) (L' := [(6, va_rf v1), (0, va_rf (some a0)), (2, .int a1), (4, .int a2)]) dX0_value_5 rfl (Nat.le_of_ble_eq_true rfl) rfl ?_
  refine am_aloadr_n (x := v1) dX0_value_6 rfl rfl ?_
  refine am_ifnullr (tgt := 20) dX0_value_7 (by decide) (fun c => ?_) (fun c => ?_)
  · have h := h.1 c
    refine am_iconst (v := 0) dX0_value_20 (by decide) ?_
    exact am_iret rfl dX0_value_21 h
  · have h := h.2 c
    refine am_iload_n (x := a2) dX0_value_10 rfl rfl ?_
    refine am_if_lt (tgt := 20) dX0_value_11 (by decide) (fun c => ?_) (fun c => ?_)
    · have h := h.1 c
      refine am_iconst (v := 0) dX0_value_20 (by decide) ?_
      exact am_iret rfl dX0_value_21 h
    · have h := h.2 c
      refine am_iload_n (x := a2) dX0_value_14 rfl rfl ?_
      refine am_bipush (v := 40) dX0_value_15 (by decide) ?_
      refine am_icmp_lt (tgt := 22) dX0_value_17 (by decide) (fun c => ?_) (fun c => ?_)
      · have h := h.1 c
        refine am_aloadr_n (x := v1) dX0_value_22 rfl rfl ?_
        refine fx_gr (k := 1) (f_fldC (ref := "PondHouse$Creature") inf_X34 (by decide) q2253 (Or.inl rfl) f_fld0) dX0_value_23 h (fun v5 h => ?_)
        refine am_iload_n (x := a2) dX0_value_26 rfl rfl ?_
        refine fx_callV (Mc := m_X23_place) (as := [.int a2]) (cs := [21]) (r := v5) (f_clsC inf_X23 q258 f_cls0) bm_X23_place q256 q257 (Nat.le_of_ble_eq_true rfl) dX0_value_27 h (fun b h => mt_X23_place (fx_k2i h (fun v6 σ7 h => ?_) (fun q σ' h => h.elim)))
        refine am_istore (L' := [(8, .int v6), (6, va_rf v1), (0, va_rf (some a0)), (2, .int a1), (4, .int a2)]) dX0_value_30 (Nat.le_of_ble_eq_true rfl) rfl ?_
        refine am_iload (x := v6) dX0_value_32 rfl ?_
        refine am_iconst (v := (-1)) dX0_value_34 (by decide) ?_
        refine am_icmp_eq (tgt := 48) dX0_value_35 (by decide) (fun c => ?_) (fun c => ?_)
        · have h := h.1 c
          refine am_aloadr_n (x := v1) dX0_value_48 rfl rfl ?_
          refine fx_gr (k := 4) (f_fldN (ref := "PondHouse$Creature") inf_X34 (by decide) q2259 rfl f_fld0) dX0_value_49 h (fun v10 h => ?_)
          refine am_iload_n (x := a2) dX0_value_52 rfl rfl ?_
          refine fx_ai3 dX0_value_53 h (fun v11 h => ?_)
          refine am_if_eq (tgt := 66) dX0_value_54 (by decide) (fun c => ?_) (fun c => ?_)
          · have h := h.1 c
            refine am_iconst (v := 0) dX0_value_66 (by decide) ?_
            exact am_iret rfl dX0_value_67 h
          · have h := h.2 c
            refine am_aloadr_n (x := v1) dX0_value_57 rfl rfl ?_
            refine fx_gr (k := 3) (f_fldN (ref := "PondHouse$Creature") inf_X34 (by decide) q2257 rfl f_fld0) dX0_value_58 h (fun v12 h => ?_)
            refine am_iload_n (x := a2) dX0_value_61 rfl rfl ?_
            refine fx_ai0 dX0_value_62 h (fun v13 h => ?_)
            refine am_goto (tgt := 67) dX0_value_63 (by decide) ?_
            exact am_iret rfl dX0_value_67 h
        · have h := h.2 c
          refine am_aloadr_n (x := v1) dX0_value_38 rfl rfl ?_
          refine fx_gr (k := 2) (f_fldC (ref := "PondHouse$Creature") inf_X34 (by decide) q2255 (Or.inl rfl) f_fld0) dX0_value_39 h (fun v14 h => ?_)
          refine am_iload (x := v6) dX0_value_42 rfl ?_
          refine fx_ai0 dX0_value_44 h (fun v15 h => ?_)
          refine am_goto (tgt := 67) dX0_value_45 (by decide) ?_
          exact am_iret rfl dX0_value_67 h
      · have h := h.2 c
        refine am_iconst (v := 0) dX0_value_20 (by decide) ?_
        exact am_iret rfl dX0_value_21 h
theorem W_X0_put_f {G : am_G} {d : Nat} {a0 : Nat} {a1 : Int32} {a2 : Int32} {a3 : Int32} {σ : am_S} {Q : Int32 → am_S → Prop} (h : f_o σ (some a0) [0] (fun b => W_X0_has_3 G d b a1 a2 σ (fun v1 σ2 => ((¬ v1 = 0 → f_gr σ2 (some a0) [0] 5 (fun v5 => f_ar σ2 v5 12 a1 (fun v6 => f_gr σ2 v6 [31] 2 (fun v7 => f_gr σ2 v6 [31] 1 (fun v8 => f_o σ2 v8 [21] (fun b => W_X23_place G d b a2 σ2 (fun v9 σ10 => f_si σ10 v7 0 v9 a3 (fun σ13 => Q 1 σ13)))))))) ∧ (v1 = 0 → Q 0 σ2))))) : W_X0_put G (d + 1) a0 a1 a2 a3 σ Q := by
  unfold W_X0_put
  refine am_aloadr_n (x := some a0) dX0_put_0 rfl rfl ?_
  refine am_iload_n (x := a1) dX0_put_1 rfl rfl ?_
  refine am_iload_n (x := a2) dX0_put_2 rfl rfl ?_
  refine fx_callV (Mc := m_X0_has_3) (as := [.int a1, .int a2]) (cs := [0]) (r := (some a0)) (f_clsC inf_X0 q2284 f_cls0) bm_X0_has_3 q2294 q2283 (Nat.le_of_ble_eq_true rfl) dX0_put_3 h (fun b h => mt_X0_has_3 (fx_k2i h (fun v1 σ2 h => ?_) (fun q σ' h => h.elim)))
  refine am_if_ne (tgt := 11) dX0_put_6 (by decide) (fun c => ?_) (fun c => ?_)
  · have h := h.1 c
    refine am_aloadr_n (x := some a0) dX0_put_11 rfl rfl ?_
    refine fx_gr (k := 5) (f_fldC (ref := "PondHouse") inf_X0 (by decide) q1242 (Or.inl rfl) f_fld0) dX0_put_12 h (fun v5 h => ?_)
    refine am_iload_n (x := a1) dX0_put_15 rfl rfl ?_
    refine fx_ar (τ := 12) rfl rfl dX0_put_16 h (fun v6 h => ?_)
    refine am_astore (x := v6) (L' := [(8, va_rf v6), (0, va_rf (some a0)), (2, .int a1), (4, .int a2), (6, .int a3)]) dX0_put_17 (Nat.le_of_ble_eq_true rfl) rfl ?_
    refine am_aloadr (x := v6) dX0_put_19 rfl ?_
    refine fx_gr (k := 2) (f_fldC (ref := "PondHouse$Creature") inf_X34 (by decide) q2255 (Or.inl rfl) f_fld0) dX0_put_21 h (fun v7 h => ?_)
    refine am_aloadr (x := v6) dX0_put_24 rfl ?_
    refine fx_gr (k := 1) (f_fldC (ref := "PondHouse$Creature") inf_X34 (by decide) q2253 (Or.inl rfl) f_fld0) dX0_put_26 h (fun v8 h => ?_)
    refine am_iload_n (x := a2) dX0_put_29 rfl rfl ?_
    refine fx_callV (Mc := m_X23_place) (as := [.int a2]) (cs := [21]) (r := v8) (f_clsC inf_X23 q258 f_cls0) bm_X23_place q256 q257 (Nat.le_of_ble_eq_true rfl) dX0_put_30 h (fun b h => mt_X23_place (fx_k2i h (fun v9 σ10 h => ?_) (fun q σ' h => h.elim)))
    refine am_iload_n (x := a3) dX0_put_33 rfl rfl ?_
    refine fx_si0 dX0_put_34 h (fun σ13 h => ?_)
    refine am_iconst (v := 1) dX0_put_35 (by decide) ?_
    exact am_zret rfl rfl dX0_put_36 h
  · have h := h.2 c
    refine am_iconst (v := 0) dX0_put_9 (by decide) ?_
    exact am_zret rfl rfl dX0_put_10 h
theorem W_X0_fixed_f {G : am_G} {d : Nat} {a0 : Nat} {a1 : Int32} {a2 : Int32} {σ : am_S} {Q : Int32 → am_S → Prop} (h : f_gr σ (some a0) [0] 3 (fun v1 => W_X0_find G d v1 a1 σ (fun v2 σ3 => ((¬ v2 = (-1) → f_gr σ3 (some a0) [0] 3 (fun v6 => f_ar σ3 v6 9 v2 (fun v7 => f_o σ3 (some a0) [0] (fun b => W_X0_fixedOf G d b v7 a2 σ3 (fun v8 σ9 => ((¬ v8 = none → f_gi σ9 v8 [23] 2 (fun v12 => Q v12 σ9)) ∧ (v8 = none → Q 0 σ9))))))) ∧ (v2 = (-1) → Q 0 σ3))))) : W_X0_fixed G (d + 1) a0 a1 a2 σ Q := by
  unfold W_X0_fixed
  refine am_aloadr_n (x := some a0) dX0_fixed_0 rfl rfl ?_
  refine fx_gr (k := 3) (f_fldC (ref := "PondHouse") inf_X0 (by decide) q1240 (Or.inl rfl) f_fld0) dX0_fixed_1 h (fun v1 h => ?_)
  refine am_iload_n (x := a1) dX0_fixed_4 rfl rfl ?_
  refine fx_callS (Mc := m_X0_find) (as := [va_rf v1, .int a1]) bm_X0_find q218 q219 (Nat.le_of_ble_eq_true rfl) dX0_fixed_5 (mt_X0_find (fx_k2i h (fun v2 σ3 h => ?_) (fun q σ' h => h.elim)))
  refine am_istore_n (L' := [(6, .int v2), (0, va_rf (some a0)), (2, .int a1), (4, .int a2)]) dX0_fixed_8 rfl (Nat.le_of_ble_eq_true rfl) rfl ?_
  refine am_iload_n (x := v2) dX0_fixed_9 rfl rfl ?_
  refine am_iconst (v := (-1)) dX0_fixed_10 (by decide) ?_
  refine am_icmp_ne (tgt := 18) dX0_fixed_11 (by decide) (fun c => ?_) (fun c => ?_)
  · have h := h.1 c
    refine am_aloadr_n (x := some a0) dX0_fixed_18 rfl rfl ?_
    refine am_aloadr_n (x := some a0) dX0_fixed_19 rfl rfl ?_
    refine fx_gr (k := 3) (f_fldC (ref := "PondHouse") inf_X0 (by decide) q1240 (Or.inl rfl) f_fld0) dX0_fixed_20 h (fun v6 h => ?_)
    refine am_iload_n (x := v2) dX0_fixed_23 rfl rfl ?_
    refine fx_ar (τ := 9) rfl rfl dX0_fixed_24 h (fun v7 h => ?_)
    refine am_iload_n (x := a2) dX0_fixed_25 rfl rfl ?_
    refine fx_callV (Mc := m_X0_fixedOf) (as := [va_rf v7, .int a2]) (cs := [0]) (r := (some a0)) (f_clsC inf_X0 qs13 f_cls0) bm_X0_fixedOf q2299 q436 (Nat.le_of_ble_eq_true rfl) dX0_fixed_26 h (fun b h => mt_X0_fixedOf (fx_k2r h (fun v8 σ9 h => ?_) (fun q σ' h => h.elim)))
    refine am_astore (x := v8) (L' := [(8, va_rf v8), (6, .int v2), (0, va_rf (some a0)), (2, .int a1), (4, .int a2)]) dX0_fixed_29 (Nat.le_of_ble_eq_true rfl) rfl ?_
    refine am_aloadr (x := v8) dX0_fixed_31 rfl ?_
    refine am_ifnonnullr (tgt := 40) dX0_fixed_33 (by decide) (fun c => ?_) (fun c => ?_)
    · have h := h.1 c
      refine am_aloadr (x := v8) dX0_fixed_40 rfl ?_
      refine fx_gi (k := 2) (f_fldC (ref := "PondHouse$Fixed") inf_X25 (by decide) q1009 (Or.inl rfl) f_fld0) dX0_fixed_42 h (fun v12 h => ?_)
      exact am_iret rfl dX0_fixed_45 h
    · have h := h.2 c
      refine am_iconst (v := 0) dX0_fixed_36 (by decide) ?_
      refine am_goto (tgt := 45) dX0_fixed_37 (by decide) ?_
      exact am_iret rfl dX0_fixed_45 h
  · have h := h.2 c
    refine am_null dX0_fixed_14 ?_
    refine am_goto (tgt := 29) dX0_fixed_15 (by decide) ?_
    refine am_astore (x := none) (L' := [(8, va_rf none), (6, .int v2), (0, va_rf (some a0)), (2, .int a1), (4, .int a2)]) dX0_fixed_29 (Nat.le_of_ble_eq_true rfl) rfl ?_
    refine am_aloadr (x := none) dX0_fixed_31 rfl ?_
    refine am_ifnonnullr (x := (none : Option Nat)) (tgt := 40) dX0_fixed_33 (by decide) (fun c => ?_) (fun c => ?_)
    · exact absurd rfl c
    · refine am_iconst (v := 0) dX0_fixed_36 (by decide) ?_
      refine am_goto (tgt := 45) dX0_fixed_37 (by decide) ?_
      exact am_iret rfl dX0_fixed_45 h
theorem W_X0_act_f {G : am_G} {d : Nat} {a0 : Nat} {a1 : Int32} {a2 : Int32} {a3 : Int32} {σ : am_S} {Q : Int32 → am_S → Prop} (h : f_o σ (some a0) [0] (fun b => W_X0_living G d b a1 σ (fun v1 σ2 => f_o σ2 (some a0) [0] (fun b => W_X0_begins G d b σ2 (fun σ6 => ((¬ v1 = none → f_o σ6 (some a0) [0] (fun b => W_X0_run G d b v1 a2 a3 σ6 (fun v9 σ10 => B_X0_act_28 G (d + 1) a0 v9 σ10 Q))) ∧ (v1 = none → B_X0_act_28 G (d + 1) a0 3 σ6 Q))))))) : W_X0_act G (d + 1) a0 a1 a2 a3 σ Q := by
  unfold W_X0_act
  refine am_aloadr_n (x := some a0) dX0_act_0 rfl rfl ?_
  refine am_iload_n (x := a1) dX0_act_1 rfl rfl ?_
  refine fx_callV (Mc := m_X0_living) (as := [.int a1]) (cs := [0]) (r := (some a0)) (f_clsC inf_X0 qs4 f_cls0) bm_X0_living q287 q289 (Nat.le_of_ble_eq_true rfl) dX0_act_2 h (fun b h => mt_X0_living (fx_k2r h (fun v1 σ2 h => ?_) (fun q σ' h => h.elim)))
  refine am_astore (x := v1) (L' := [(8, va_rf v1), (0, va_rf (some a0)), (2, .int a1), (4, .int a2), (6, .int a3)]) dX0_act_5 (Nat.le_of_ble_eq_true rfl) rfl ?_
  refine am_aloadr_n (x := some a0) dX0_act_7 rfl rfl ?_
  refine fx_callV (Mc := m_X0_begins) (as := []) (cs := [0]) (r := (some a0)) (f_clsC inf_X0 qs7 f_cls0) bm_X0_begins q394 q396 (Nat.le_of_ble_eq_true rfl) dX0_act_8 h (fun b h => mt_X0_begins (fx_k2v h (fun σ6 h => ?_) (fun q σ' h => h.elim)))
  refine am_aloadr (x := v1) dX0_act_11 rfl ?_
  refine am_ifnonnullr (tgt := 20) dX0_act_13 (by decide) (fun c => ?_) (fun c => ?_)
  · have h := h.1 c
    refine am_aloadr_n (x := some a0) dX0_act_20 rfl rfl ?_
    refine am_aloadr (x := v1) dX0_act_21 rfl ?_
    refine am_iload_n (x := a2) dX0_act_23 rfl rfl ?_
    refine am_iload_n (x := a3) dX0_act_24 rfl rfl ?_
    refine fx_callVX (Mc := m_X0_run) (as := [va_rf v1, .int a2, .int a3]) (cs := [0]) (r := (some a0)) (f_clsC inf_X0 qs6 f_cls0) bm_X0_run q389 q391 (Nat.le_of_ble_eq_true rfl) dX0_act_25 h (fun b h => mt_X0_run (fx_k2i h (fun v9 σ10 h => ?_) (fun q σ' h => h.elim)))
    exact am_lss h rfl
  · have h := h.2 c
    refine am_iconst (v := 3) dX0_act_16 (by decide) ?_
    refine am_goto (tgt := 28) dX0_act_17 (by decide) ?_
    exact am_lss h rfl
theorem B_X0_act_28_f {G : am_G} {d : Nat} {a0 : Nat} {s0 : Int32} {σ : am_S} {Q : Int32 → am_S → Prop} (h : f_gi σ (some a0) [0] 15 (fun v1 => f_p σ (some a0) [0] 42 (.int v1) (fun σ2 => f_gi σ2 (some a0) [0] 16 (fun v3 => f_p σ2 (some a0) [0] 43 (.int v3) (fun σ4 => f_gi σ4 (some a0) [0] 10 (fun v5 => f_p σ4 (some a0) [0] 44 (.int (500 - v5)) (fun σ6 => Q s0 σ6))))))) : B_X0_act_28 G (d + 1) a0 s0 σ Q := by
  unfold B_X0_act_28
  refine am_istore (L' := [(10, .int s0), (0, va_rf (some a0))]) dX0_act_28 (Nat.le_of_ble_eq_true rfl) rfl ?_
  refine am_aloadr_n (x := some a0) dX0_act_30 rfl rfl ?_
  refine am_aloadr_n (x := some a0) dX0_act_31 rfl rfl ?_
  refine fx_gi (k := 15) (f_fldC (ref := "PondHouse") inf_X0 (by decide) q1253 (Or.inl rfl) f_fld0) dX0_act_32 h (fun v1 h => ?_)
  refine fx_p (k := 42) (v := .int v1) (f_putC inf_X0 (by decide) rfl rfl q1282 (Or.inl rfl) f_put0) dX0_act_35 h (fun σ2 h => ?_)
  refine am_aloadr_n (x := some a0) dX0_act_38 rfl rfl ?_
  refine am_aloadr_n (x := some a0) dX0_act_39 rfl rfl ?_
  refine fx_gi (k := 16) (f_fldC (ref := "PondHouse") inf_X0 (by decide) q1254 (Or.inl rfl) f_fld0) dX0_act_40 h (fun v3 h => ?_)
  refine fx_p (k := 43) (v := .int v3) (f_putC inf_X0 (by decide) rfl rfl q1283 (Or.inl rfl) f_put0) dX0_act_43 h (fun σ4 h => ?_)
  refine am_aloadr_n (x := some a0) dX0_act_46 rfl rfl ?_
  refine am_sipush (v := 500) dX0_act_47 (by decide) ?_
  refine am_aloadr_n (x := some a0) dX0_act_50 rfl rfl ?_
  refine fx_gi (k := 10) (f_fldC (ref := "PondHouse") inf_X0 (by decide) q1248 (Or.inl rfl) f_fld0) dX0_act_51 h (fun v5 h => ?_)
  refine am_isub dX0_act_54 ?_
  refine fx_p (k := 44) (v := .int (500 - v5)) (f_putC inf_X0 (by decide) rfl rfl q1284 (Or.inl rfl) f_put0) dX0_act_55 h (fun σ6 h => ?_)
  refine am_iload (x := s0) dX0_act_58 rfl ?_
  exact am_iret rfl dX0_act_60 h
theorem W_X0_told_f {G : am_G} {d : Nat} {a0 : Nat} {a1 : Int32} {σ : am_S} {Q : Int32 → am_S → Prop} (h : ((¬ a1 = 0 → ((¬ a1 = 1 → ((¬ a1 = 2 → Q (-1) σ) ∧ (a1 = 2 → f_gi σ (some a0) [0] 44 (fun v1 => Q v1 σ)))) ∧ (a1 = 1 → f_gi σ (some a0) [0] 43 (fun v2 => Q v2 σ)))) ∧ (a1 = 0 → f_gi σ (some a0) [0] 42 (fun v3 => Q v3 σ)))) : W_X0_told G d a0 a1 σ Q := by
  unfold W_X0_told
  refine am_iload_n (x := a1) dX0_told_0 rfl rfl ?_
  refine am_if_ne (tgt := 11) dX0_told_1 (by decide) (fun c => ?_) (fun c => ?_)
  · have h := h.1 c
    refine am_iload_n (x := a1) dX0_told_11 rfl rfl ?_
    refine am_iconst (v := 1) dX0_told_12 (by decide) ?_
    refine am_icmp_ne (tgt := 23) dX0_told_13 (by decide) (fun c => ?_) (fun c => ?_)
    · have h := h.1 c
      refine am_iload_n (x := a1) dX0_told_23 rfl rfl ?_
      refine am_iconst (v := 2) dX0_told_24 (by decide) ?_
      refine am_icmp_ne (tgt := 35) dX0_told_25 (by decide) (fun c => ?_) (fun c => ?_)
      · have h := h.1 c
        refine am_iconst (v := (-1)) dX0_told_35 (by decide) ?_
        exact am_iret rfl dX0_told_36 h
      · have h := h.2 c
        refine am_aloadr_n (x := some a0) dX0_told_28 rfl rfl ?_
        refine fx_gi (k := 44) (f_fldC (ref := "PondHouse") inf_X0 (by decide) q1284 (Or.inl rfl) f_fld0) dX0_told_29 h (fun v1 h => ?_)
        refine am_goto (tgt := 36) dX0_told_32 (by decide) ?_
        exact am_iret rfl dX0_told_36 h
    · have h := h.2 c
      refine am_aloadr_n (x := some a0) dX0_told_16 rfl rfl ?_
      refine fx_gi (k := 43) (f_fldC (ref := "PondHouse") inf_X0 (by decide) q1283 (Or.inl rfl) f_fld0) dX0_told_17 h (fun v2 h => ?_)
      refine am_goto (tgt := 36) dX0_told_20 (by decide) ?_
      exact am_iret rfl dX0_told_36 h
  · have h := h.2 c
    refine am_aloadr_n (x := some a0) dX0_told_4 rfl rfl ?_
    refine fx_gi (k := 42) (f_fldC (ref := "PondHouse") inf_X0 (by decide) q1282 (Or.inl rfl) f_fld0) dX0_told_5 h (fun v3 h => ?_)
    refine am_goto (tgt := 36) dX0_told_8 (by decide) ?_
    exact am_iret rfl dX0_told_36 h
theorem W_X0_sum_f {G : am_G} {d : Nat} {a0 : Nat} {a1 : Int32} {σ : am_S} {Q : Int64 → am_S → Prop} (h : B_X0_sum_5 G (d + 1) a0 a1 0 0 σ Q) : W_X0_sum G (d + 1) a0 a1 σ Q := by
  unfold W_X0_sum
  refine am_lconst (v := 0) dX0_sum_0 (by decide) ?_
  refine am_lstore_n (L' := [(5, .long 0), (0, va_rf (some a0)), (2, .int a1)]) dX0_sum_1 rfl (Nat.le_of_ble_eq_true rfl) rfl ?_
  refine am_iconst (v := 0) dX0_sum_2 (by decide) ?_
  refine am_istore (L' := [(8, .int 0), (5, .long 0), (0, va_rf (some a0)), (2, .int a1)]) dX0_sum_3 (Nat.le_of_ble_eq_true rfl) rfl ?_
  exact am_lss h rfl
theorem B_X0_sum_5_f {G : am_G} {d : Nat} {a0 : Nat} {x1 : Int32} {x2 : Int64} {x4 : Int32} {σ : am_S} {Q : Int64 → am_S → Prop} (h : f_gi σ (some a0) [0] 6 (fun v1 => ((v1 ≤ x4 → Q x2 σ) ∧ (¬ v1 ≤ x4 → f_o σ (some a0) [0] (fun b => W_X0_has_3 G d b x4 x1 σ (fun v2 σ3 => ((v2 = 0 → B_X0_sum_5 G (d + 1) a0 x1 x2 (x4 + 1) σ3 Q) ∧ (¬ v2 = 0 → f_gr σ3 (some a0) [0] 5 (fun v6 => f_ar σ3 v6 12 x4 (fun v7 => f_gr σ3 v7 [31] 2 (fun v8 => f_gr σ3 (some a0) [0] 5 (fun v9 => f_ar σ3 v9 12 x4 (fun v10 => f_gr σ3 v10 [31] 1 (fun v11 => f_o σ3 v11 [21] (fun b => W_X23_place G d b x1 σ3 (fun v12 σ13 => f_ai σ13 v8 0 v12 (fun v16 => B_X0_sum_5 G (d + 1) a0 x1 (x2 + (Int32.toInt64 v16)) (x4 + 1) σ13 Q))))))))))))))))) : B_X0_sum_5 G (d + 1) a0 x1 x2 x4 σ Q := by
  unfold B_X0_sum_5
  refine am_iload (x := x4) dX0_sum_5 rfl ?_
  refine am_aloadr_n (x := some a0) dX0_sum_7 rfl rfl ?_
  refine fx_gi (k := 6) (f_fldC (ref := "PondHouse") inf_X0 (by decide) q1243 (Or.inl rfl) f_fld0) dX0_sum_8 h (fun v1 h => ?_)
  refine am_icmp_ge (tgt := 59) dX0_sum_11 (by decide) (fun c => ?_) (fun c => ?_)
  · have h := h.1 c
    refine am_lload_n (x := x2) dX0_sum_59 rfl rfl ?_
    exact am_lret rfl dX0_sum_60 h
  · have h := h.2 c
    refine am_aloadr_n (x := some a0) dX0_sum_14 rfl rfl ?_
    refine am_iload (x := x4) dX0_sum_15 rfl ?_
    refine am_iload_n (x := x1) dX0_sum_17 rfl rfl ?_
    refine fx_callV (Mc := m_X0_has_3) (as := [.int x4, .int x1]) (cs := [0]) (r := (some a0)) (f_clsC inf_X0 q2284 f_cls0) bm_X0_has_3 q2294 q2283 (Nat.le_of_ble_eq_true rfl) dX0_sum_18 h (fun b h => mt_X0_has_3 (fx_k2i h (fun v2 σ3 h => ?_) (fun q σ' h => h.elim)))
    refine am_if_eq (tgt := 53) dX0_sum_21 (by decide) (fun c => ?_) (fun c => ?_)
    · have h := h.1 c
      refine am_iinc (x := x4) (v := (x4 + 1)) (L' := [(8, .int (x4 + 1)), (0, va_rf (some a0)), (2, .int x1), (5, .long x2)]) dX0_sum_53 rfl rfl (Nat.le_of_ble_eq_true rfl) rfl ?_
      refine am_goto (tgt := 5) dX0_sum_56 (by decide) ?_
      exact am_lss h rfl
    · have h := h.2 c
      refine am_lload_n (x := x2) dX0_sum_24 rfl rfl ?_
      refine am_aloadr_n (x := some a0) dX0_sum_25 rfl rfl ?_
      refine fx_gr (k := 5) (f_fldC (ref := "PondHouse") inf_X0 (by decide) q1242 (Or.inl rfl) f_fld0) dX0_sum_26 h (fun v6 h => ?_)
      refine am_iload (x := x4) dX0_sum_29 rfl ?_
      refine fx_ar (τ := 12) rfl rfl dX0_sum_31 h (fun v7 h => ?_)
      refine fx_gr (k := 2) (f_fldC (ref := "PondHouse$Creature") inf_X34 (by decide) q2255 (Or.inl rfl) f_fld0) dX0_sum_32 h (fun v8 h => ?_)
      refine am_aloadr_n (x := some a0) dX0_sum_35 rfl rfl ?_
      refine fx_gr (k := 5) (f_fldC (ref := "PondHouse") inf_X0 (by decide) q1242 (Or.inl rfl) f_fld0) dX0_sum_36 h (fun v9 h => ?_)
      refine am_iload (x := x4) dX0_sum_39 rfl ?_
      refine fx_ar (τ := 12) rfl rfl dX0_sum_41 h (fun v10 h => ?_)
      refine fx_gr (k := 1) (f_fldC (ref := "PondHouse$Creature") inf_X34 (by decide) q2253 (Or.inl rfl) f_fld0) dX0_sum_42 h (fun v11 h => ?_)
      refine am_iload_n (x := x1) dX0_sum_45 rfl rfl ?_
      refine fx_callV (Mc := m_X23_place) (as := [.int x1]) (cs := [21]) (r := v11) (f_clsC inf_X23 q258 f_cls0) bm_X23_place q256 q257 (Nat.le_of_ble_eq_true rfl) dX0_sum_46 h (fun b h => mt_X23_place (fx_k2i h (fun v12 σ13 h => ?_) (fun q σ' h => h.elim)))
      refine fx_ai0 dX0_sum_49 h (fun v16 h => ?_)
      refine am_i2l dX0_sum_50 rfl ?_
      refine am_ladd dX0_sum_51 ?_
      refine am_lstore_n (L' := [(5, .long (x2 + (Int32.toInt64 v16))), (0, va_rf (some a0)), (2, .int x1), (8, .int x4)]) dX0_sum_52 rfl (Nat.le_of_ble_eq_true rfl) rfl ?_
      refine am_iinc (x := x4) (v := (x4 + 1)) (L' := [(8, .int (x4 + 1)), (5, .long (x2 + (Int32.toInt64 v16))), (0, va_rf (some a0)), (2, .int x1)]) dX0_sum_53 rfl rfl (Nat.le_of_ble_eq_true rfl) rfl ?_
      refine am_goto (tgt := 5) dX0_sum_56 (by decide) ?_
      exact am_lss h rfl
theorem W_X1_init_f {G : am_G} {d : Nat} {a0 : Nat} {σ : am_S} {Q : am_S → Prop} (h : Q σ) : W_X1_init G (d + 1) a0 σ Q := by
  unfold W_X1_init
  refine am_aloadr_n (x := some a0) dX1_init_0 rfl rfl ?_
  refine am_objInit q303 q304 q305 (Nat.le_of_ble_eq_true rfl) dX1_init_1 ?_
  exact am_vret rfl dX1_init_4 h
theorem W_X1_begins_f {G : am_G} {d : Nat} {a0 : Nat} {a1 : Option Nat} {a2 : Option Nat} {a3 : Int32} {σ : am_S} {Q : Option Nat → am_S → Prop} (h : f_p σ (some a0) [1] 0 (va_rf a1) (fun σ1 => f_p σ1 (some a0) [1] 1 (va_rf a2) (fun σ2 => f_p σ2 (some a0) [1] 2 (.int a3) (fun σ3 => f_p σ3 (some a0) [1] 3 (.int 0) (fun σ4 => f_p σ4 (some a0) [1] 4 (.int 0) (fun σ5 => Q (some a0) σ5)))))) : W_X1_begins G d a0 a1 a2 a3 σ Q := by
  unfold W_X1_begins
  refine am_aloadr_n (x := some a0) dX1_begins_0 rfl rfl ?_
  refine am_aloadr_n (x := a1) dX1_begins_1 rfl rfl ?_
  refine fx_p (k := 0) (v := va_rf a1) (f_putC inf_X1 (by decide) (f_nrf _ _) (f_frf _ _) q307 (Or.inl rfl) f_put0) dX1_begins_2 h (fun σ1 h => ?_)
  refine am_aloadr_n (x := some a0) dX1_begins_5 rfl rfl ?_
  refine am_aloadr_n (x := a2) dX1_begins_6 rfl rfl ?_
  refine fx_p (k := 1) (v := va_rf a2) (f_putC inf_X1 (by decide) (f_nrf _ _) (f_frf _ _) q311 (Or.inl rfl) f_put0) dX1_begins_7 h (fun σ2 h => ?_)
  refine am_aloadr_n (x := some a0) dX1_begins_10 rfl rfl ?_
  refine am_iload_n (x := a3) dX1_begins_11 rfl rfl ?_
  refine fx_p (k := 2) (v := .int a3) (f_putC inf_X1 (by decide) rfl rfl q314 (Or.inl rfl) f_put0) dX1_begins_12 h (fun σ3 h => ?_)
  refine am_aloadr_n (x := some a0) dX1_begins_15 rfl rfl ?_
  refine am_iconst (v := 0) dX1_begins_16 (by decide) ?_
  refine fx_p (k := 3) (v := .int 0) (f_putC inf_X1 (by decide) rfl rfl q318 (Or.inl rfl) f_put0) dX1_begins_17 h (fun σ4 h => ?_)
  refine am_aloadr_n (x := some a0) dX1_begins_20 rfl rfl ?_
  refine am_iconst (v := 0) dX1_begins_21 (by decide) ?_
  refine fx_p (k := 4) (v := .int 0) (f_putC inf_X1 (by decide) rfl rfl q320 (Or.inl rfl) f_put0) dX1_begins_22 h (fun σ5 h => ?_)
  refine am_aloadr_n (x := some a0) dX1_begins_25 rfl rfl ?_
  exact fx_aret rfl rfl dX1_begins_26 h
theorem W_X10_does_f {G : am_G} {d : Nat} {a0 : Nat} {a1 : Option Nat} {a2 : Int32} {a3 : Int32} {σ : am_S} {Q : Int32 → am_S → Prop} {E : Nat → am_S → Prop} (h : B_X10_does_3 G (d + 1) a0 a1 a3 a2 σ Q E) : W_X10_does G (d + 1) a0 a1 a2 a3 σ Q E := by
  unfold W_X10_does
  refine am_iload_n (x := a2) dX10_does_0 rfl rfl ?_
  refine am_istore (L' := [(8, .int a2), (0, va_rf (some a0)), (2, va_rf a1), (4, .int a2), (6, .int a3)]) dX10_does_1 (Nat.le_of_ble_eq_true rfl) rfl ?_
  exact am_lss h rfl
theorem B_X10_does_3_f {G : am_G} {d : Nat} {a0 : Nat} {x1 : Option Nat} {x3 : Int32} {x4 : Int32} {σ : am_S} {Q : Int32 → am_S → Prop} {E : Nat → am_S → Prop} (h : f_gi σ (some a0) [10] 1 (fun v1 => ((v1 ≤ x4 → f_gi σ (some a0) [10] 1 (fun v2 => Q v2 σ)) ∧ (¬ v1 ≤ x4 → f_gr σ (some a0) [10] 2 (fun v3 => f_o σ v3 [0] (fun b => W_X0_spends G d b σ (fun σ5 => f_gr σ5 (some a0) [10] 0 (fun v8 => f_ar σ5 v8 7 x4 (fun v9 => f_nn v9 (fun b => V_X11_does G d b x1 σ5 (fun v10 σ11 => ((¬ v10 = 0 → ((x3 = 0 → B_X10_does_3 G (d + 1) a0 x1 x3 (x4 + 1) σ11 Q E) ∧ (¬ x3 = 0 → f_gr σ11 (some a0) [10] 0 (fun v14 => f_ar σ11 v14 7 x4 (fun v15 => f_is σ11 v15 [20] [11, 17, 18, 19] (fun v16 => ((v16 = 0 → B_X10_does_3 G (d + 1) a0 x1 x3 (x4 + 1) σ11 Q E) ∧ (¬ v16 = 0 → Q (x4 + 1) σ11)))))))) ∧ (v10 = 0 → Q (-1) σ11))) E)))) E)))))) : B_X10_does_3 G (d + 1) a0 x1 x3 x4 σ Q E := by
  unfold B_X10_does_3
  refine am_iload (x := x4) dX10_does_3 rfl ?_
  refine am_aloadr_n (x := some a0) dX10_does_5 rfl rfl ?_
  refine fx_gi (k := 1) (f_fldC (ref := "PondHouse$Block") inf_X10 (by decide) q1771 (Or.inl rfl) f_fld0) dX10_does_6 h (fun v1 h => ?_)
  refine am_icmp_ge (tgt := 63) dX10_does_9 (by decide) (fun c => ?_) (fun c => ?_)
  · have h := h.1 c
    refine am_aloadr_n (x := some a0) dX10_does_63 rfl rfl ?_
    refine fx_gi (k := 1) (f_fldC (ref := "PondHouse$Block") inf_X10 (by decide) q1771 (Or.inl rfl) f_fld0) dX10_does_64 h (fun v2 h => ?_)
    exact am_iret rfl dX10_does_67 h
  · have h := h.2 c
    refine am_aloadr_n (x := some a0) dX10_does_12 rfl rfl ?_
    refine fx_gr (k := 2) (f_fldC (ref := "PondHouse$Block") inf_X10 (by decide) q1772 (Or.inl rfl) f_fld0) dX10_does_13 h (fun v3 h => ?_)
    refine fx_callVN (Mc := m_X0_spends) (as := []) (cs := [0]) (r := v3) (f_clsC inf_X0 qs10 f_cls0) bm_X0_spends q410 q412 (Nat.le_of_ble_eq_true rfl) dX10_does_16 h (fun b h => mt_X0_spends (fx_k2v h (fun σ5 h => ?_) (fun q σ' h => am_xout (by decide +kernel) h)))
    refine am_aloadr_n (x := some a0) dX10_does_19 rfl rfl ?_
    refine fx_gr (k := 0) (f_fldC (ref := "PondHouse$Block") inf_X10 (by decide) q1770 (Or.inl rfl) f_fld0) dX10_does_20 h (fun v8 h => ?_)
    refine am_iload (x := x4) dX10_does_23 rfl ?_
    refine fx_ar (τ := 7) rfl rfl dX10_does_25 h (fun v9 h => ?_)
    refine am_aloadr_n (x := x1) dX10_does_26 rfl rfl ?_
    refine fv_X11_does q414 dX10_does_27 (Nat.le_of_ble_eq_true rfl) h (fun v10 σ11 h => ?_) (fun q σ' h => am_xout (by decide +kernel) h)
    refine am_if_ne (tgt := 35) dX10_does_30 (by decide) (fun c => ?_) (fun c => ?_)
    · have h := h.1 c
      refine am_iload_n (x := x3) dX10_does_35 rfl rfl ?_
      refine am_if_eq (tgt := 57) dX10_does_36 (by decide) (fun c => ?_) (fun c => ?_)
      · have h := h.1 c
        refine am_iinc (x := x4) (v := (x4 + 1)) (L' := [(8, .int (x4 + 1)), (0, va_rf (some a0)), (2, va_rf x1), (6, .int x3)]) dX10_does_57 rfl rfl (Nat.le_of_ble_eq_true rfl) rfl ?_
        refine am_goto (tgt := 3) dX10_does_60 (by decide) ?_
        exact am_lss h rfl
      · have h := h.2 c
        refine am_aloadr_n (x := some a0) dX10_does_39 rfl rfl ?_
        refine fx_gr (k := 0) (f_fldC (ref := "PondHouse$Block") inf_X10 (by decide) q1770 (Or.inl rfl) f_fld0) dX10_does_40 h (fun v14 h => ?_)
        refine am_iload (x := x4) dX10_does_43 rfl ?_
        refine fx_ar (τ := 7) rfl rfl dX10_does_45 h (fun v15 h => ?_)
        refine fx_is (ys := [20]) (ns := [11, 17, 18, 19]) (f_clsC inf_X22 (Or.inl rfl) f_cls0) (f_clsC inf_X12 (by decide) (f_clsC inf_X19 (by decide) (f_clsC inf_X20 (by decide) (f_clsC inf_X21 (by decide) f_cls0)))) q488 dX10_does_46 h (fun v16 h => ?_)
        refine am_if_eq (tgt := 57) dX10_does_49 (by decide) (fun c => ?_) (fun c => ?_)
        · have h := h.1 c
          refine am_iinc (x := x4) (v := (x4 + 1)) (L' := [(8, .int (x4 + 1)), (0, va_rf (some a0)), (2, va_rf x1), (6, .int x3)]) dX10_does_57 rfl rfl (Nat.le_of_ble_eq_true rfl) rfl ?_
          refine am_goto (tgt := 3) dX10_does_60 (by decide) ?_
          exact am_lss h rfl
        · have h := h.2 c
          refine am_iload (x := x4) dX10_does_52 rfl ?_
          refine am_iconst (v := 1) dX10_does_54 (by decide) ?_
          refine am_iadd dX10_does_55 ?_
          exact am_iret rfl dX10_does_56 h
    · have h := h.2 c
      refine am_iconst (v := (-1)) dX10_does_33 (by decide) ?_
      exact am_iret rfl dX10_does_34 h
theorem W_X10_isBehindRest_f {G : am_G} {d : Nat} {a0 : Nat} {a1 : Int32} {σ : am_S} {Q : Int32 → am_S → Prop} (h : ((a1 ≤ 0 → Q 0 σ) ∧ (¬ a1 ≤ 0 → f_gr σ (some a0) [10] 0 (fun v1 => f_ar σ v1 7 (a1 - 1) (fun v2 => f_is σ v2 [20] [11, 17, 18, 19] (fun v3 => ((v3 = 0 → Q 0 σ) ∧ (¬ v3 = 0 → Q 1 σ)))))))) : W_X10_isBehindRest G d a0 a1 σ Q := by
  unfold W_X10_isBehindRest
  refine am_iload_n (x := a1) dX10_isBehindRest_0 rfl rfl ?_
  refine am_if_le (tgt := 22) dX10_isBehindRest_1 (by decide) (fun c => ?_) (fun c => ?_)
  · have h := h.1 c
    refine am_iconst (v := 0) dX10_isBehindRest_22 (by decide) ?_
    exact am_zret rfl rfl dX10_isBehindRest_23 h
  · have h := h.2 c
    refine am_aloadr_n (x := some a0) dX10_isBehindRest_4 rfl rfl ?_
    refine fx_gr (k := 0) (f_fldC (ref := "PondHouse$Block") inf_X10 (by decide) q1770 (Or.inl rfl) f_fld0) dX10_isBehindRest_5 h (fun v1 h => ?_)
    refine am_iload_n (x := a1) dX10_isBehindRest_8 rfl rfl ?_
    refine am_iconst (v := 1) dX10_isBehindRest_9 (by decide) ?_
    refine am_isub dX10_isBehindRest_10 ?_
    refine fx_ar (τ := 7) rfl rfl dX10_isBehindRest_11 h (fun v2 h => ?_)
    refine fx_is (ys := [20]) (ns := [11, 17, 18, 19]) (f_clsC inf_X22 (Or.inl rfl) f_cls0) (f_clsC inf_X12 (by decide) (f_clsC inf_X19 (by decide) (f_clsC inf_X20 (by decide) (f_clsC inf_X21 (by decide) f_cls0)))) q488 dX10_isBehindRest_12 h (fun v3 h => ?_)
    refine am_if_eq (tgt := 22) dX10_isBehindRest_15 (by decide) (fun c => ?_) (fun c => ?_)
    · have h := h.1 c
      refine am_iconst (v := 0) dX10_isBehindRest_22 (by decide) ?_
      exact am_zret rfl rfl dX10_isBehindRest_23 h
    · have h := h.2 c
      refine am_iconst (v := 1) dX10_isBehindRest_18 (by decide) ?_
      refine am_goto (tgt := 23) dX10_isBehindRest_19 (by decide) ?_
      exact am_zret rfl rfl dX10_isBehindRest_23 h
theorem W_X10_init_f {G : am_G} {d : Nat} {a0 : Nat} {a1 : Option Nat} {σ : am_S} {Q : am_S → Prop} (h : f_p σ (some a0) [10] 2 (va_rf a1) (fun σ1 => f_na G σ1 7 f_a0r 2 (fun n2 σ3 => f_p σ3 (some a0) [10] 0 (va_rf (some n2)) (fun σ4 => Q σ4)))) : W_X10_init G (d + 1) a0 a1 σ Q := by
  unfold W_X10_init
  refine am_aloadr_n (x := some a0) dX10_init_0 rfl rfl ?_
  refine am_aloadr_n (x := a1) dX10_init_1 rfl rfl ?_
  refine fx_p (k := 2) (v := va_rf a1) (f_putC inf_X10 (by decide) (f_nrf _ _) (f_frf _ _) q1772 (Or.inr ⟨rfl, rfl, rfl⟩) f_put0) dX10_init_2 h (fun σ1 h => ?_)
  refine am_aloadr_n (x := some a0) dX10_init_5 rfl rfl ?_
  refine am_objInit q1767 q304 q305 (Nat.le_of_ble_eq_true rfl) dX10_init_6 ?_
  refine am_aloadr_n (x := some a0) dX10_init_9 rfl rfl ?_
  refine am_iconst (v := 2) dX10_init_10 (by decide) ?_
  refine fx_nar (τ := 7) q1768 q1769 rfl dX10_init_11 h (fun n2 σ3 h => ?_)
  refine fx_p (k := 0) (v := va_rf (some n2)) (f_putC inf_X10 (by decide) (f_nra _ _) (f_fra _ _) q1770 (Or.inl rfl) f_put0) dX10_init_14 h (fun σ4 h => ?_)
  exact am_vret rfl dX10_init_17 h
theorem W_X10_add_f {G : am_G} {d : Nat} {a0 : Nat} {a1 : Option Nat} {σ : am_S} {Q : am_S → Prop} (h : f_gi σ (some a0) [10] 1 (fun v1 => f_gr σ (some a0) [10] 0 (fun v2 => f_al σ v2 7 (fun v3 => ((¬ v1 = v3 → f_gr σ (some a0) [10] 0 (fun v4 => f_gi σ (some a0) [10] 1 (fun v5 => f_sr σ v4 7 [11, 17, 18, 19, 20] v5 a1 (fun σ6 => f_gi σ6 (some a0) [10] 1 (fun v7 => f_p σ6 (some a0) [10] 1 (.int (v7 + 1)) (fun σ8 => Q σ8)))))) ∧ (v1 = v3 → f_gi σ (some a0) [10] 1 (fun v9 => f_na G σ 7 f_a0r (2 * v9) (fun n10 σ11 => f_gr σ11 (some a0) [10] 0 (fun v12 => f_gi σ11 (some a0) [10] 1 (fun v13 => f_cpr σ11 v12 0 (some n10) 0 v13 7 [11, 17, 18, 19, 20] (fun σ14 => f_p σ14 (some a0) [10] 0 (va_rf (some n10)) (fun σ15 => f_gr σ15 (some a0) [10] 0 (fun v16 => f_gi σ15 (some a0) [10] 1 (fun v17 => f_sr σ15 v16 7 [11, 17, 18, 19, 20] v17 a1 (fun σ18 => f_gi σ18 (some a0) [10] 1 (fun v19 => f_p σ18 (some a0) [10] 1 (.int (v19 + 1)) (fun σ20 => Q σ20))))))))))))))))) : W_X10_add G (d + 1) a0 a1 σ Q := by
  unfold W_X10_add
  refine am_aloadr_n (x := some a0) dX10_add_0 rfl rfl ?_
  refine fx_gi (k := 1) (f_fldC (ref := "PondHouse$Block") inf_X10 (by decide) q1771 (Or.inl rfl) f_fld0) dX10_add_1 h (fun v1 h => ?_)
  refine am_aloadr_n (x := some a0) dX10_add_4 rfl rfl ?_
  refine fx_gr (k := 0) (f_fldC (ref := "PondHouse$Block") inf_X10 (by decide) q1770 (Or.inl rfl) f_fld0) dX10_add_5 h (fun v2 h => ?_)
  refine fx_al (τ := 7) rfl dX10_add_8 h (fun v3 h => ?_)
  refine am_icmp_ne (tgt := 41) dX10_add_9 (by decide) (fun c => ?_) (fun c => ?_)
  · have h := h.1 c
    refine am_aloadr_n (x := some a0) dX10_add_41 rfl rfl ?_
    refine fx_gr (k := 0) (f_fldC (ref := "PondHouse$Block") inf_X10 (by decide) q1770 (Or.inl rfl) f_fld0) dX10_add_42 h (fun v4 h => ?_)
    refine am_aloadr_n (x := some a0) dX10_add_45 rfl rfl ?_
    refine fx_gi (k := 1) (f_fldC (ref := "PondHouse$Block") inf_X10 (by decide) q1771 (Or.inl rfl) f_fld0) dX10_add_46 h (fun v5 h => ?_)
    refine am_aloadr_n (x := a1) dX10_add_49 rfl rfl ?_
    refine fx_sr (τ := 7) (E := "PondHouse$Statement") (cs := [11, 17, 18, 19, 20]) (v := a1) rfl (f_clsC inf_X12 (Or.inr q3126) (f_clsC inf_X19 (Or.inr q3127) (f_clsC inf_X20 (Or.inr q3128) (f_clsC inf_X21 (Or.inr q3129) (f_clsC inf_X22 (Or.inr q3130) f_cls0))))) dX10_add_50 h (fun σ6 h => ?_)
    refine am_aloadr_n (x := some a0) dX10_add_51 rfl rfl ?_
    refine am_dup dX10_add_52 (am_rf_cat _) ?_
    refine fx_gi (k := 1) (f_fldC (ref := "PondHouse$Block") inf_X10 (by decide) q1771 (Or.inl rfl) f_fld0) dX10_add_53 h (fun v7 h => ?_)
    refine am_iconst (v := 1) dX10_add_56 (by decide) ?_
    refine am_iadd dX10_add_57 ?_
    refine fx_p (k := 1) (v := .int (v7 + 1)) (f_putC inf_X10 (by decide) rfl rfl q1771 (Or.inl rfl) f_put0) dX10_add_58 h (fun σ8 h => ?_)
    exact am_vret rfl dX10_add_61 h
  · have h := h.2 c
    refine am_iconst (v := 2) dX10_add_12 (by decide) ?_
    refine am_aloadr_n (x := some a0) dX10_add_13 rfl rfl ?_
    refine fx_gi (k := 1) (f_fldC (ref := "PondHouse$Block") inf_X10 (by decide) q1771 (Or.inl rfl) f_fld0) dX10_add_14 h (fun v9 h => ?_)
    refine am_imul dX10_add_17 ?_
    refine fx_nar (τ := 7) q1768 q1769 rfl dX10_add_18 h (fun n10 σ11 h => ?_)
    refine am_astore_n (x := (some n10)) (L' := [(4, va_rf (some n10)), (0, va_rf (some a0)), (2, va_rf a1)]) dX10_add_21 rfl (Nat.le_of_ble_eq_true rfl) rfl ?_
    refine am_aloadr_n (x := some a0) dX10_add_22 rfl rfl ?_
    refine fx_gr (k := 0) (f_fldC (ref := "PondHouse$Block") inf_X10 (by decide) q1770 (Or.inl rfl) f_fld0) dX10_add_23 h (fun v12 h => ?_)
    refine am_iconst (v := 0) dX10_add_26 (by decide) ?_
    refine am_aloadr_n (x := (some n10)) dX10_add_27 rfl rfl ?_
    refine am_iconst (v := 0) dX10_add_28 (by decide) ?_
    refine am_aloadr_n (x := some a0) dX10_add_29 rfl rfl ?_
    refine fx_gi (k := 1) (f_fldC (ref := "PondHouse$Block") inf_X10 (by decide) q1771 (Or.inl rfl) f_fld0) dX10_add_30 h (fun v13 h => ?_)
    refine fx_cpr (τ := 7) (E := "PondHouse$Statement") (cs := [11, 17, 18, 19, 20]) q2019 q623 q622 q177 rfl (am_mayL (f_clsC inf_X12 (Or.inr q3126) (f_clsC inf_X19 (Or.inr q3127) (f_clsC inf_X20 (Or.inr q3128) (f_clsC inf_X21 (Or.inr q3129) (f_clsC inf_X22 (Or.inr q3130) f_cls0)))))) (Nat.le_of_ble_eq_true rfl) dX10_add_33 h (fun σ14 h => ?_)
    refine am_aloadr_n (x := some a0) dX10_add_36 rfl rfl ?_
    refine am_aloadr_n (x := (some n10)) dX10_add_37 rfl rfl ?_
    refine fx_p (k := 0) (v := va_rf (some n10)) (f_putC inf_X10 (by decide) (f_nra _ _) (f_fra _ _) q1770 (Or.inl rfl) f_put0) dX10_add_38 h (fun σ15 h => ?_)
    refine am_aloadr_n (x := some a0) dX10_add_41 rfl rfl ?_
    refine fx_gr (k := 0) (f_fldC (ref := "PondHouse$Block") inf_X10 (by decide) q1770 (Or.inl rfl) f_fld0) dX10_add_42 h (fun v16 h => ?_)
    refine am_aloadr_n (x := some a0) dX10_add_45 rfl rfl ?_
    refine fx_gi (k := 1) (f_fldC (ref := "PondHouse$Block") inf_X10 (by decide) q1771 (Or.inl rfl) f_fld0) dX10_add_46 h (fun v17 h => ?_)
    refine am_aloadr_n (x := a1) dX10_add_49 rfl rfl ?_
    refine fx_sr (τ := 7) (E := "PondHouse$Statement") (cs := [11, 17, 18, 19, 20]) (v := a1) rfl (f_clsC inf_X12 (Or.inr q3126) (f_clsC inf_X19 (Or.inr q3127) (f_clsC inf_X20 (Or.inr q3128) (f_clsC inf_X21 (Or.inr q3129) (f_clsC inf_X22 (Or.inr q3130) f_cls0))))) dX10_add_50 h (fun σ18 h => ?_)
    refine am_aloadr_n (x := some a0) dX10_add_51 rfl rfl ?_
    refine am_dup dX10_add_52 (am_rf_cat _) ?_
    refine fx_gi (k := 1) (f_fldC (ref := "PondHouse$Block") inf_X10 (by decide) q1771 (Or.inl rfl) f_fld0) dX10_add_53 h (fun v19 h => ?_)
    refine am_iconst (v := 1) dX10_add_56 (by decide) ?_
    refine am_iadd dX10_add_57 ?_
    refine fx_p (k := 1) (v := .int (v19 + 1)) (f_putC inf_X10 (by decide) rfl rfl q1771 (Or.inl rfl) f_put0) dX10_add_58 h (fun σ20 h => ?_)
    exact am_vret rfl dX10_add_61 h
theorem W_X11_init_f {G : am_G} {d : Nat} {a0 : Nat} {a1 : Option Nat} {σ : am_S} {Q : am_S → Prop} (h : f_p σ (some a0) [11, 17, 18, 19, 20] 0 (va_rf a1) (fun σ1 => Q σ1)) : W_X11_init G (d + 1) a0 a1 σ Q := by
  unfold W_X11_init
  refine am_aloadr_n (x := some a0) dX11_init_0 rfl rfl ?_
  refine am_aloadr_n (x := a1) dX11_init_1 rfl rfl ?_
  refine fx_p (k := 0) (v := va_rf a1) (f_putC inf_X12 (by decide) (f_nrf _ _) (f_frf _ _) q1936 (Or.inr ⟨rfl, rfl, rfl⟩) (f_putC inf_X19 (by decide) (f_nrf _ _) (f_frf _ _) q1936 (Or.inr ⟨rfl, rfl, rfl⟩) (f_putC inf_X20 (by decide) (f_nrf _ _) (f_frf _ _) q1936 (Or.inr ⟨rfl, rfl, rfl⟩) (f_putC inf_X21 (by decide) (f_nrf _ _) (f_frf _ _) q1936 (Or.inr ⟨rfl, rfl, rfl⟩) (f_putC inf_X22 (by decide) (f_nrf _ _) (f_frf _ _) q1936 (Or.inr ⟨rfl, rfl, rfl⟩) f_put0))))) dX11_init_2 h (fun σ1 h => ?_)
  refine am_aloadr_n (x := some a0) dX11_init_5 rfl rfl ?_
  refine am_objInit q1929 q304 q305 (Nat.le_of_ble_eq_true rfl) dX11_init_6 ?_
  exact am_vret rfl dX11_init_9 h
theorem W_X12_does_f {G : am_G} {d : Nat} {a0 : Nat} {a1 : Option Nat} {σ : am_S} {Q : Int32 → am_S → Prop} {E : Nat → am_S → Prop} (h : f_gr σ (some a0) [11] 1 (fun v1 => f_nn v1 (fun b => V_X13_of G d b a1 σ (fun v2 σ3 => ((v2 = 0 → f_gr σ3 (some a0) [11] 3 (fun v6 => B_X12_does_22 G (d + 1) a0 a1 v6 σ3 Q E)) ∧ (¬ v2 = 0 → f_gr σ3 (some a0) [11] 2 (fun v7 => B_X12_does_22 G (d + 1) a0 a1 v7 σ3 Q E)))) E))) : W_X12_does G (d + 1) a0 a1 σ Q E := by
  unfold W_X12_does
  refine am_aloadr_n (x := some a0) dX12_does_0 rfl rfl ?_
  refine fx_gr (k := 1) (f_fldC (ref := "PondHouse$Chooses") inf_X12 (by decide) q1930 (Or.inl rfl) f_fld0) dX12_does_1 h (fun v1 h => ?_)
  refine am_aloadr_n (x := a1) dX12_does_4 rfl rfl ?_
  refine fv_X13_of q444 dX12_does_5 (Nat.le_of_ble_eq_true rfl) h (fun v2 σ3 h => ?_) (fun q σ' h => am_xout (by decide +kernel) h)
  refine am_if_eq (tgt := 18) dX12_does_8 (by decide) (fun c => ?_) (fun c => ?_)
  · have h := h.1 c
    refine am_aloadr_n (x := some a0) dX12_does_18 rfl rfl ?_
    refine fx_gr (k := 3) (f_fldC (ref := "PondHouse$Chooses") inf_X12 (by decide) q1933 (Or.inl rfl) f_fld0) dX12_does_19 h (fun v6 h => ?_)
    exact am_lss h rfl
  · have h := h.2 c
    refine am_aloadr_n (x := some a0) dX12_does_11 rfl rfl ?_
    refine fx_gr (k := 2) (f_fldC (ref := "PondHouse$Chooses") inf_X12 (by decide) q1931 (Or.inl rfl) f_fld0) dX12_does_12 h (fun v7 h => ?_)
    refine am_goto (tgt := 22) dX12_does_15 (by decide) ?_
    exact am_lss h rfl
theorem B_X12_does_22_f {G : am_G} {d : Nat} {a0 : Nat} {x1 : Option Nat} {s0 : Option Nat} {σ : am_S} {Q : Int32 → am_S → Prop} {E : Nat → am_S → Prop} (h : ((s0 = none → Q 1 σ) ∧ (¬ s0 = none → f_o σ s0 [10] (fun b => W_X10_does G d b x1 0 0 σ (fun v1 σ2 => ((v1 < 0 → Q 0 σ2) ∧ (¬ v1 < 0 → Q 1 σ2))) E)))) : B_X12_does_22 G (d + 1) a0 x1 s0 σ Q E := by
  unfold B_X12_does_22
  refine am_astore_n (x := s0) (L' := [(4, va_rf s0), (2, va_rf x1)]) dX12_does_22 rfl (Nat.le_of_ble_eq_true rfl) rfl ?_
  refine am_aloadr_n (x := s0) dX12_does_23 rfl rfl ?_
  refine am_ifnullr (tgt := 37) dX12_does_24 (by decide) (fun c => ?_) (fun c => ?_)
  · have h := h.1 c
    refine am_iconst (v := 1) dX12_does_37 (by decide) ?_
    refine am_goto (tgt := 42) dX12_does_38 (by decide) ?_
    exact am_zret rfl rfl dX12_does_42 h
  · have h := h.2 c
    refine am_aloadr_n (x := s0) dX12_does_27 rfl rfl ?_
    refine am_aloadr_n (x := x1) dX12_does_28 rfl rfl ?_
    refine am_iconst (v := 0) dX12_does_29 (by decide) ?_
    refine am_iconst (v := 0) dX12_does_30 (by decide) ?_
    refine fx_callV (Mc := m_X10_does) (as := [va_rf x1, .int 0, .int 0]) (cs := [10]) (r := s0) (f_clsC inf_X10 q408 f_cls0) bm_X10_does q471 q407 (Nat.le_of_ble_eq_true rfl) dX12_does_31 h (fun b h => mt_X10_does (fx_k2i h (fun v1 σ2 h => ?_) (fun q σ' h => am_xout (by decide +kernel) h)))
    refine am_if_lt (tgt := 41) dX12_does_34 (by decide) (fun c => ?_) (fun c => ?_)
    · have h := h.1 c
      refine am_iconst (v := 0) dX12_does_41 (by decide) ?_
      exact am_zret rfl rfl dX12_does_42 h
    · have h := h.2 c
      refine am_iconst (v := 1) dX12_does_37 (by decide) ?_
      refine am_goto (tgt := 42) dX12_does_38 (by decide) ?_
      exact am_zret rfl rfl dX12_does_42 h
theorem W_X12_init_f {G : am_G} {d : Nat} {a0 : Nat} {a1 : Option Nat} {a2 : Option Nat} {σ : am_S} {Q : am_S → Prop} (h : f_p σ (some a0) [11] 4 (va_rf a1) (fun σ1 => W_X11_init G d a0 a1 σ1 (fun σ3 => f_p σ3 (some a0) [11] 1 (va_rf a2) (fun σ6 => Q σ6)))) : W_X12_init G (d + 1) a0 a1 a2 σ Q := by
  unfold W_X12_init
  refine am_aloadr_n (x := some a0) dX12_init_0 rfl rfl ?_
  refine am_aloadr_n (x := a1) dX12_init_1 rfl rfl ?_
  refine fx_p (k := 4) (v := va_rf a1) (f_putC inf_X12 (by decide) (f_nrf _ _) (f_frf _ _) q1935 (Or.inr ⟨rfl, rfl, rfl⟩) f_put0) dX12_init_2 h (fun σ1 h => ?_)
  refine am_aloadr_n (x := some a0) dX12_init_5 rfl rfl ?_
  refine am_aloadr_n (x := a1) dX12_init_6 rfl rfl ?_
  refine fx_callIN (Mc := m_X11_init) (as := [va_rf a1]) bm_X11_init q1926 q1927 rfl rfl (Nat.le_of_ble_eq_true rfl) dX12_init_7 (mt_X11_init (fx_k2v h (fun σ3 h => ?_) (fun q σ' h => h.elim)))
  refine am_aloadr_n (x := some a0) dX12_init_10 rfl rfl ?_
  refine am_aloadr_n (x := a2) dX12_init_11 rfl rfl ?_
  refine fx_p (k := 1) (v := va_rf a2) (f_putC inf_X12 (by decide) (f_nrf _ _) (f_frf _ _) q1930 (Or.inr ⟨rfl, rfl, rfl⟩) f_put0) dX12_init_12 h (fun σ6 h => ?_)
  exact am_vret rfl dX12_init_15 h
theorem W_X13_init_f {G : am_G} {d : Nat} {a0 : Nat} {a1 : Option Nat} {σ : am_S} {Q : am_S → Prop} (h : f_p σ (some a0) [12, 13, 14, 15, 16] 0 (va_rf a1) (fun σ1 => Q σ1)) : W_X13_init G (d + 1) a0 a1 σ Q := by
  unfold W_X13_init
  refine am_aloadr_n (x := some a0) dX13_init_0 rfl rfl ?_
  refine am_aloadr_n (x := a1) dX13_init_1 rfl rfl ?_
  refine fx_p (k := 0) (v := va_rf a1) (f_putC inf_X14 (by decide) (f_nrf _ _) (f_frf _ _) q1832 (Or.inr ⟨rfl, rfl, rfl⟩) (f_putC inf_X15 (by decide) (f_nrf _ _) (f_frf _ _) q1832 (Or.inr ⟨rfl, rfl, rfl⟩) (f_putC inf_X16 (by decide) (f_nrf _ _) (f_frf _ _) q1832 (Or.inr ⟨rfl, rfl, rfl⟩) (f_putC inf_X17 (by decide) (f_nrf _ _) (f_frf _ _) q1832 (Or.inr ⟨rfl, rfl, rfl⟩) (f_putC inf_X18 (by decide) (f_nrf _ _) (f_frf _ _) q1832 (Or.inr ⟨rfl, rfl, rfl⟩) f_put0))))) dX13_init_2 h (fun σ1 h => ?_)
  refine am_aloadr_n (x := some a0) dX13_init_5 rfl rfl ?_
  refine am_objInit q1829 q304 q305 (Nat.le_of_ble_eq_true rfl) dX13_init_6 ?_
  exact am_vret rfl dX13_init_9 h
theorem W_X14_of_f {G : am_G} {d : Nat} {a0 : Nat} {a1 : Option Nat} {σ : am_S} {Q : Int32 → am_S → Prop} (h : f_gi σ (some a0) [12] 1 (fun v1 => Q v1 σ)) : W_X14_of G d a0 a1 σ Q := by
  unfold W_X14_of
  refine am_aloadr_n (x := some a0) dX14_of_0 rfl rfl ?_
  refine fx_gi (k := 1) (f_fldC (ref := "PondHouse$Plain") inf_X14 (by decide) q1830 (Or.inl rfl) f_fld0) dX14_of_1 h (fun v1 h => ?_)
  exact am_iret rfl dX14_of_4 h
theorem W_X14_init_f {G : am_G} {d : Nat} {a0 : Nat} {a1 : Option Nat} {a2 : Int32} {σ : am_S} {Q : am_S → Prop} (h : f_p σ (some a0) [12] 2 (va_rf a1) (fun σ1 => W_X13_init G d a0 a1 σ1 (fun σ3 => f_p σ3 (some a0) [12] 1 (.int a2) (fun σ6 => Q σ6)))) : W_X14_init G (d + 1) a0 a1 a2 σ Q := by
  unfold W_X14_init
  refine am_aloadr_n (x := some a0) dX14_init_0 rfl rfl ?_
  refine am_aloadr_n (x := a1) dX14_init_1 rfl rfl ?_
  refine fx_p (k := 2) (v := va_rf a1) (f_putC inf_X14 (by decide) (f_nrf _ _) (f_frf _ _) q1831 (Or.inr ⟨rfl, rfl, rfl⟩) f_put0) dX14_init_2 h (fun σ1 h => ?_)
  refine am_aloadr_n (x := some a0) dX14_init_5 rfl rfl ?_
  refine am_aloadr_n (x := a1) dX14_init_6 rfl rfl ?_
  refine fx_callIN (Mc := m_X13_init) (as := [va_rf a1]) bm_X13_init q1826 q1827 rfl rfl (Nat.le_of_ble_eq_true rfl) dX14_init_7 (mt_X13_init (fx_k2v h (fun σ3 h => ?_) (fun q σ' h => h.elim)))
  refine am_aloadr_n (x := some a0) dX14_init_10 rfl rfl ?_
  refine am_iload_n (x := a2) dX14_init_11 rfl rfl ?_
  refine fx_p (k := 1) (v := .int a2) (f_putC inf_X14 (by decide) rfl rfl q1830 (Or.inr ⟨rfl, rfl, rfl⟩) f_put0) dX14_init_12 h (fun σ6 h => ?_)
  exact am_vret rfl dX14_init_15 h
theorem W_X15_of_f {G : am_G} {d : Nat} {a0 : Nat} {a1 : Option Nat} {σ : am_S} {Q : Int32 → am_S → Prop} {E : Nat → am_S → Prop} (h : f_gr σ a1 [1] 0 (fun v1 => f_gi σ (some a0) [13] 1 (fun v2 => f_o σ v1 [31] (fun b => W_X34_get G d b v2 σ (fun v3 σ4 => Q v3 σ4) E)))) : W_X15_of G (d + 1) a0 a1 σ Q E := by
  unfold W_X15_of
  refine am_aloadr_n (x := a1) dX15_of_0 rfl rfl ?_
  refine fx_gr (k := 0) (f_fldC (ref := "PondHouse$Frame") inf_X1 (by decide) q306 (Or.inl rfl) f_fld0) dX15_of_1 h (fun v1 h => ?_)
  refine am_aloadr_n (x := some a0) dX15_of_4 rfl rfl ?_
  refine fx_gi (k := 1) (f_fldC (ref := "PondHouse$Named") inf_X15 (by decide) q1847 (Or.inl rfl) f_fld0) dX15_of_5 h (fun v2 h => ?_)
  refine fx_callV (Mc := m_X34_get) (as := [.int v2]) (cs := [31]) (r := v1) (f_clsC inf_X34 q431 f_cls0) bm_X34_get q456 q430 (Nat.le_of_ble_eq_true rfl) dX15_of_8 h (fun b h => mt_X34_get (fx_k2i h (fun v3 σ4 h => ?_) (fun q σ' h => am_xout (by decide +kernel) h)))
  exact am_iret rfl dX15_of_11 h
theorem W_X15_init_f {G : am_G} {d : Nat} {a0 : Nat} {a1 : Option Nat} {a2 : Int32} {σ : am_S} {Q : am_S → Prop} (h : f_p σ (some a0) [13] 2 (va_rf a1) (fun σ1 => W_X13_init G d a0 a1 σ1 (fun σ3 => f_p σ3 (some a0) [13] 1 (.int a2) (fun σ6 => Q σ6)))) : W_X15_init G (d + 1) a0 a1 a2 σ Q := by
  unfold W_X15_init
  refine am_aloadr_n (x := some a0) dX15_init_0 rfl rfl ?_
  refine am_aloadr_n (x := a1) dX15_init_1 rfl rfl ?_
  refine fx_p (k := 2) (v := va_rf a1) (f_putC inf_X15 (by decide) (f_nrf _ _) (f_frf _ _) q1848 (Or.inr ⟨rfl, rfl, rfl⟩) f_put0) dX15_init_2 h (fun σ1 h => ?_)
  refine am_aloadr_n (x := some a0) dX15_init_5 rfl rfl ?_
  refine am_aloadr_n (x := a1) dX15_init_6 rfl rfl ?_
  refine fx_callIN (Mc := m_X13_init) (as := [va_rf a1]) bm_X13_init q1846 q1827 rfl rfl (Nat.le_of_ble_eq_true rfl) dX15_init_7 (mt_X13_init (fx_k2v h (fun σ3 h => ?_) (fun q σ' h => h.elim)))
  refine am_aloadr_n (x := some a0) dX15_init_10 rfl rfl ?_
  refine am_iload_n (x := a2) dX15_init_11 rfl rfl ?_
  refine fx_p (k := 1) (v := .int a2) (f_putC inf_X15 (by decide) rfl rfl q1847 (Or.inr ⟨rfl, rfl, rfl⟩) f_put0) dX15_init_12 h (fun σ6 h => ?_)
  exact am_vret rfl dX15_init_15 h
theorem W_X16_of_f {G : am_G} {d : Nat} {a0 : Nat} {a1 : Option Nat} {σ : am_S} {Q : Int32 → am_S → Prop} (h : f_gi σ (some a0) [14] 1 (fun v1 => ((v1 = 0 → f_gi σ a1 [1] 2 (fun v2 => Q v2 σ)) ∧ (¬ v1 = 0 → f_gi σ a1 [1] 3 (fun v3 => Q v3 σ))))) : W_X16_of G d a0 a1 σ Q := by
  unfold W_X16_of
  refine am_aloadr_n (x := some a0) dX16_of_0 rfl rfl ?_
  refine fx_gi (k := 1) (f_fldC (ref := "PondHouse$Own") inf_X16 (by decide) q1862 (Or.inl rfl) f_fld0) dX16_of_1 h (fun v1 h => ?_)
  refine am_if_eq (tgt := 14) dX16_of_4 (by decide) (fun c => ?_) (fun c => ?_)
  · have h := h.1 c
    refine am_aloadr_n (x := a1) dX16_of_14 rfl rfl ?_
    refine fx_gi (k := 2) (f_fldC (ref := "PondHouse$Frame") inf_X1 (by decide) q315 (Or.inl rfl) f_fld0) dX16_of_15 h (fun v2 h => ?_)
    exact am_iret rfl dX16_of_18 h
  · have h := h.2 c
    refine am_aloadr_n (x := a1) dX16_of_7 rfl rfl ?_
    refine fx_gi (k := 3) (f_fldC (ref := "PondHouse$Frame") inf_X1 (by decide) q317 (Or.inl rfl) f_fld0) dX16_of_8 h (fun v3 h => ?_)
    refine am_goto (tgt := 18) dX16_of_11 (by decide) ?_
    exact am_iret rfl dX16_of_18 h
theorem W_X16_init_f {G : am_G} {d : Nat} {a0 : Nat} {a1 : Option Nat} {a2 : Int32} {σ : am_S} {Q : am_S → Prop} (h : f_p σ (some a0) [14] 2 (va_rf a1) (fun σ1 => W_X13_init G d a0 a1 σ1 (fun σ3 => ((a2 = 0 ∨ a2 = 1) ∧ f_p σ3 (some a0) [14] 1 (.int a2) (fun σ6 => Q σ6))))) : W_X16_init G (d + 1) a0 a1 a2 σ Q := by
  unfold W_X16_init
  refine am_aloadr_n (x := some a0) dX16_init_0 rfl rfl ?_
  refine am_aloadr_n (x := a1) dX16_init_1 rfl rfl ?_
  refine fx_p (k := 2) (v := va_rf a1) (f_putC inf_X16 (by decide) (f_nrf _ _) (f_frf _ _) q1863 (Or.inr ⟨rfl, rfl, rfl⟩) f_put0) dX16_init_2 h (fun σ1 h => ?_)
  refine am_aloadr_n (x := some a0) dX16_init_5 rfl rfl ?_
  refine am_aloadr_n (x := a1) dX16_init_6 rfl rfl ?_
  refine fx_callIN (Mc := m_X13_init) (as := [va_rf a1]) bm_X13_init q1861 q1827 rfl rfl (Nat.le_of_ble_eq_true rfl) dX16_init_7 (mt_X13_init (fx_k2v h (fun σ3 h => ?_) (fun q σ' h => h.elim)))
  refine am_aloadr_n (x := some a0) dX16_init_10 rfl rfl ?_
  refine am_iload_n (x := a2) dX16_init_11 rfl rfl ?_
  refine fx_p (k := 1) (v := .int a2) (f_putC inf_X16 (by decide) (f_nz h.1) (f_fz h.1) q1862 (Or.inr ⟨rfl, rfl, rfl⟩) f_put0) dX16_init_12 h.2 (fun σ6 h => ?_)
  exact am_vret rfl dX16_init_15 h
theorem W_X17_of_f {G : am_G} {d : Nat} {a0 : Nat} {a1 : Option Nat} {σ : am_S} {Q : Int32 → am_S → Prop} {E : Nat → am_S → Prop} (h : f_gr σ (some a0) [15] 1 (fun v1 => f_nn v1 (fun b => V_X13_of G d b a1 σ (fun v2 σ3 => Q (-v2) σ3) E))) : W_X17_of G (d + 1) a0 a1 σ Q E := by
  unfold W_X17_of
  refine am_aloadr_n (x := some a0) dX17_of_0 rfl rfl ?_
  refine fx_gr (k := 1) (f_fldC (ref := "PondHouse$Minus") inf_X17 (by decide) q1877 (Or.inl rfl) f_fld0) dX17_of_1 h (fun v1 h => ?_)
  refine am_aloadr_n (x := a1) dX17_of_4 rfl rfl ?_
  refine fv_X13_of q453 dX17_of_5 (Nat.le_of_ble_eq_true rfl) h (fun v2 σ3 h => ?_) (fun q σ' h => am_xout (by decide +kernel) h)
  refine am_ineg dX17_of_8 ?_
  exact am_iret rfl dX17_of_9 h
theorem W_X17_init_f {G : am_G} {d : Nat} {a0 : Nat} {a1 : Option Nat} {a2 : Option Nat} {σ : am_S} {Q : am_S → Prop} (h : f_p σ (some a0) [15] 2 (va_rf a1) (fun σ1 => W_X13_init G d a0 a1 σ1 (fun σ3 => f_p σ3 (some a0) [15] 1 (va_rf a2) (fun σ6 => Q σ6)))) : W_X17_init G (d + 1) a0 a1 a2 σ Q := by
  unfold W_X17_init
  refine am_aloadr_n (x := some a0) dX17_init_0 rfl rfl ?_
  refine am_aloadr_n (x := a1) dX17_init_1 rfl rfl ?_
  refine fx_p (k := 2) (v := va_rf a1) (f_putC inf_X17 (by decide) (f_nrf _ _) (f_frf _ _) q1878 (Or.inr ⟨rfl, rfl, rfl⟩) f_put0) dX17_init_2 h (fun σ1 h => ?_)
  refine am_aloadr_n (x := some a0) dX17_init_5 rfl rfl ?_
  refine am_aloadr_n (x := a1) dX17_init_6 rfl rfl ?_
  refine fx_callIN (Mc := m_X13_init) (as := [va_rf a1]) bm_X13_init q1876 q1827 rfl rfl (Nat.le_of_ble_eq_true rfl) dX17_init_7 (mt_X13_init (fx_k2v h (fun σ3 h => ?_) (fun q σ' h => h.elim)))
  refine am_aloadr_n (x := some a0) dX17_init_10 rfl rfl ?_
  refine am_aloadr_n (x := a2) dX17_init_11 rfl rfl ?_
  refine fx_p (k := 1) (v := va_rf a2) (f_putC inf_X17 (by decide) (f_nrf _ _) (f_frf _ _) q1877 (Or.inr ⟨rfl, rfl, rfl⟩) f_put0) dX17_init_12 h (fun σ6 h => ?_)
  exact am_vret rfl dX17_init_15 h
theorem W_X18_of_f {G : am_G} {d : Nat} {a0 : Nat} {a1 : Option Nat} {σ : am_S} {Q : Int32 → am_S → Prop} {E : Nat → am_S → Prop} (h : f_gr σ (some a0) [16] 1 (fun v1 => f_nn v1 (fun b => V_X13_of G d b a1 σ (fun v2 σ3 => B_X18_of_11 G (d + 1) a0 a1 v2 0 σ3 Q E) E))) : W_X18_of G (d + 1) a0 a1 σ Q E := by
  unfold W_X18_of
  refine am_aloadr_n (x := some a0) dX18_of_0 rfl rfl ?_
  refine fx_gr (k := 1) (f_fldC (ref := "PondHouse$Chain") inf_X18 (by decide) q1892 (Or.inl rfl) f_fld0) dX18_of_1 h (fun v1 h => ?_)
  refine am_aloadr_n (x := a1) dX18_of_4 rfl rfl ?_
  refine fv_X13_of q450 dX18_of_5 (Nat.le_of_ble_eq_true rfl) h (fun v2 σ3 h => ?_) (fun q σ' h => am_xout (by decide +kernel) h)
  refine am_istore_n (L' := [(4, .int v2), (0, va_rf (some a0)), (2, va_rf a1)]) dX18_of_8 rfl (Nat.le_of_ble_eq_true rfl) rfl ?_
  refine am_iconst (v := 0) dX18_of_9 (by decide) ?_
  refine am_istore_n (L' := [(6, .int 0), (4, .int v2), (0, va_rf (some a0)), (2, va_rf a1)]) dX18_of_10 rfl (Nat.le_of_ble_eq_true rfl) rfl ?_
  exact am_lss h rfl
theorem B_X18_of_11_f {G : am_G} {d : Nat} {a0 : Nat} {x1 : Option Nat} {x2 : Int32} {x3 : Int32} {σ : am_S} {Q : Int32 → am_S → Prop} {E : Nat → am_S → Prop} (h : f_gi σ (some a0) [16] 4 (fun v1 => ((v1 ≤ x3 → Q x2 σ) ∧ (¬ v1 ≤ x3 → f_gr σ (some a0) [16] 3 (fun v2 => f_ai σ v2 2 x3 (fun v3 => f_gr σ (some a0) [16] 2 (fun v4 => f_ar σ v4 6 x3 (fun v5 => f_nn v5 (fun b => V_X13_of G d b x1 σ (fun v6 σ7 => f_o σ7 (some a0) [16] (fun b => W_X18_together G d b x2 v3 v6 σ7 (fun v10 σ11 => B_X18_of_11 G (d + 1) a0 x1 v10 (x3 + 1) σ11 Q E) E)) E))))))))) : B_X18_of_11 G (d + 1) a0 x1 x2 x3 σ Q E := by
  unfold B_X18_of_11
  refine am_iload_n (x := x3) dX18_of_11 rfl rfl ?_
  refine am_aloadr_n (x := some a0) dX18_of_12 rfl rfl ?_
  refine fx_gi (k := 4) (f_fldC (ref := "PondHouse$Chain") inf_X18 (by decide) q1895 (Or.inl rfl) f_fld0) dX18_of_13 h (fun v1 h => ?_)
  refine am_icmp_ge (tgt := 47) dX18_of_16 (by decide) (fun c => ?_) (fun c => ?_)
  · have h := h.1 c
    refine am_iload_n (x := x2) dX18_of_47 rfl rfl ?_
    exact am_iret rfl dX18_of_48 h
  · have h := h.2 c
    refine am_aloadr_n (x := some a0) dX18_of_19 rfl rfl ?_
    refine am_iload_n (x := x2) dX18_of_20 rfl rfl ?_
    refine am_aloadr_n (x := some a0) dX18_of_21 rfl rfl ?_
    refine fx_gr (k := 3) (f_fldC (ref := "PondHouse$Chain") inf_X18 (by decide) q1894 (Or.inl rfl) f_fld0) dX18_of_22 h (fun v2 h => ?_)
    refine am_iload_n (x := x3) dX18_of_25 rfl rfl ?_
    refine fx_ai2 dX18_of_26 h (fun v3 h => ?_)
    refine am_aloadr_n (x := some a0) dX18_of_27 rfl rfl ?_
    refine fx_gr (k := 2) (f_fldC (ref := "PondHouse$Chain") inf_X18 (by decide) q1893 (Or.inl rfl) f_fld0) dX18_of_28 h (fun v4 h => ?_)
    refine am_iload_n (x := x3) dX18_of_31 rfl rfl ?_
    refine fx_ar (τ := 6) rfl rfl dX18_of_32 h (fun v5 h => ?_)
    refine am_aloadr_n (x := x1) dX18_of_33 rfl rfl ?_
    refine fv_X13_of q450 dX18_of_34 (Nat.le_of_ble_eq_true rfl) h (fun v6 σ7 h => ?_) (fun q σ' h => am_xout (by decide +kernel) h)
    refine fx_callV (Mc := m_X18_together) (as := [.int x2, .int v3, .int v6]) (cs := [16]) (r := (some a0)) (f_clsC inf_X18 qs14 f_cls0) bm_X18_together q461 q463 (Nat.le_of_ble_eq_true rfl) dX18_of_37 h (fun b h => mt_X18_together (fx_k2i h (fun v10 σ11 h => ?_) (fun q σ' h => am_xout (by decide +kernel) h)))
    refine am_istore_n (L' := [(4, .int v10), (0, va_rf (some a0)), (2, va_rf x1), (6, .int x3)]) dX18_of_40 rfl (Nat.le_of_ble_eq_true rfl) rfl ?_
    refine am_iinc (x := x3) (v := (x3 + 1)) (L' := [(6, .int (x3 + 1)), (4, .int v10), (0, va_rf (some a0)), (2, va_rf x1)]) dX18_of_41 rfl rfl (Nat.le_of_ble_eq_true rfl) rfl ?_
    refine am_goto (tgt := 11) dX18_of_44 (by decide) ?_
    exact am_lss h rfl
theorem W_X18_together_f {G : am_G} {d : Nat} {a0 : Nat} {a1 : Int32} {a2 : Int32} {a3 : Int32} {σ : am_S} {Q : Int32 → am_S → Prop} {E : Nat → am_S → Prop} (h : ((a2 = 42 → Q (a1 * a3) σ) ∧ (¬ a2 = 42 → ((a2 = 43 → Q (a1 + a3) σ) ∧ (¬ a2 = 43 → ((a2 = 45 → Q (a1 - a3) σ) ∧ (¬ a2 = 45 → ((a2 = 60 → ((a3 ≤ a1 → Q 0 σ) ∧ (¬ a3 ≤ a1 → Q 1 σ))) ∧ (¬ a2 = 60 → ((a2 = 61 → ((¬ a1 = a3 → Q 0 σ) ∧ (a1 = a3 → Q 1 σ))) ∧ (¬ a2 = 61 → ((¬ a3 = 0 → (¬ a3 = 0 ∧ (Q (a1 / a3) σ))) ∧ (a3 = 0 → f_gr σ (some a0) [16] 5 (fun v1 => f_o σ v1 [0] (fun b => W_X0_fails G d b 1002 σ (fun v2 σ3 => f_o σ3 v2 [2] (fun q => E q σ3))))))))))))))))) : W_X18_together G (d + 1) a0 a1 a2 a3 σ Q E := by
  unfold W_X18_together
  refine am_iload_n (x := a2) dX18_together_0 rfl rfl ?_
  by_cases c0 : a2 = 42
  · have h := h.1 c0
    refine am_lookup (off := 59) (tgt := 60) dX18_together_1 (by decide) (by rw [c0]; rfl) (by decide) ?_
    refine am_iload_n (x := a1) dX18_together_60 rfl rfl ?_
    refine am_iload_n (x := a3) dX18_together_61 rfl rfl ?_
    refine am_imul dX18_together_62 ?_
    exact am_iret rfl dX18_together_63 h
  · have h := h.2 c0
    by_cases c1 : a2 = 43
    · have h := h.1 c1
      refine am_lookup (off := 51) (tgt := 52) dX18_together_1 (by decide) ((lv_osw c0 (by decide)).trans (by rw [c1]; rfl)) (by decide) ?_
      refine am_iload_n (x := a1) dX18_together_52 rfl rfl ?_
      refine am_iload_n (x := a3) dX18_together_53 rfl rfl ?_
      refine am_iadd dX18_together_54 ?_
      exact am_iret rfl dX18_together_55 h
    · have h := h.2 c1
      by_cases c2 : a2 = 45
      · have h := h.1 c2
        refine am_lookup (off := 55) (tgt := 56) dX18_together_1 (by decide) ((lv_osw c0 (by decide)).trans ((lv_osw c1 (by decide)).trans (by rw [c2]; rfl))) (by decide) ?_
        refine am_iload_n (x := a1) dX18_together_56 rfl rfl ?_
        refine am_iload_n (x := a3) dX18_together_57 rfl rfl ?_
        refine am_isub dX18_together_58 ?_
        exact am_iret rfl dX18_together_59 h
      · have h := h.2 c2
        by_cases c3 : a2 = 60
        · have h := h.1 c3
          refine am_lookup (off := 63) (tgt := 64) dX18_together_1 (by decide) ((lv_osw c0 (by decide)).trans ((lv_osw c1 (by decide)).trans ((lv_osw c2 (by decide)).trans (by rw [c3]; rfl)))) (by decide) ?_
          refine am_iload_n (x := a1) dX18_together_64 rfl rfl ?_
          refine am_iload_n (x := a3) dX18_together_65 rfl rfl ?_
          refine am_icmp_ge (tgt := 73) dX18_together_66 (by decide) (fun c => ?_) (fun c => ?_)
          · have h := h.1 c
            refine am_iconst (v := 0) dX18_together_73 (by decide) ?_
            exact am_iret rfl dX18_together_74 h
          · have h := h.2 c
            refine am_iconst (v := 1) dX18_together_69 (by decide) ?_
            refine am_goto (tgt := 74) dX18_together_70 (by decide) ?_
            exact am_iret rfl dX18_together_74 h
        · have h := h.2 c3
          by_cases c4 : a2 = 61
          · have h := h.1 c4
            refine am_lookup (off := 74) (tgt := 75) dX18_together_1 (by decide) ((lv_osw c0 (by decide)).trans ((lv_osw c1 (by decide)).trans ((lv_osw c2 (by decide)).trans ((lv_osw c3 (by decide)).trans (by rw [c4]; rfl))))) (by decide) ?_
            refine am_iload_n (x := a1) dX18_together_75 rfl rfl ?_
            refine am_iload_n (x := a3) dX18_together_76 rfl rfl ?_
            refine am_icmp_ne (tgt := 84) dX18_together_77 (by decide) (fun c => ?_) (fun c => ?_)
            · have h := h.1 c
              refine am_iconst (v := 0) dX18_together_84 (by decide) ?_
              exact am_iret rfl dX18_together_85 h
            · have h := h.2 c
              refine am_iconst (v := 1) dX18_together_80 (by decide) ?_
              refine am_goto (tgt := 85) dX18_together_81 (by decide) ?_
              exact am_iret rfl dX18_together_85 h
          · have h := h.2 c4
            refine am_lookup (off := 85) (tgt := 86) dX18_together_1 (by decide) ((lv_osw c0 (by decide)).trans ((lv_osw c1 (by decide)).trans ((lv_osw c2 (by decide)).trans ((lv_osw c3 (by decide)).trans ((lv_osw c4 (by decide)).trans rfl))))) (by decide) ?_
            refine am_iload_n (x := a3) dX18_together_86 rfl rfl ?_
            refine am_if_ne (tgt := 101) dX18_together_87 (by decide) (fun c => ?_) (fun c => ?_)
            · have h := h.1 c
              refine am_iload_n (x := a1) dX18_together_101 rfl rfl ?_
              refine am_iload_n (x := a3) dX18_together_102 rfl rfl ?_
              refine am_idiv dX18_together_103 h.1 ?_
              have h := h.2
              exact am_iret rfl dX18_together_104 h
            · have h := h.2 c
              refine am_aloadr_n (x := some a0) dX18_together_90 rfl rfl ?_
              refine fx_gr (k := 5) (f_fldC (ref := "PondHouse$Chain") inf_X18 (by decide) q1896 (Or.inl rfl) f_fld0) dX18_together_91 h (fun v1 h => ?_)
              refine am_sipush (v := 1002) dX18_together_94 (by decide) ?_
              refine fx_callVN (Mc := m_X0_fails) (as := [.int 1002]) (cs := [0]) (r := v1) (f_clsC inf_X0 qs12 f_cls0) bm_X0_fails q466 q427 (Nat.le_of_ble_eq_true rfl) dX18_together_97 h (fun b h => mt_X0_fails (fx_k2r h (fun v2 σ3 h => ?_) (fun q σ' h => h.elim)))
              exact fx_throw (cs := [2]) dX18_together_100 h (fun q h => am_xout (by decide +kernel) h)
theorem W_X18_init_f {G : am_G} {d : Nat} {a0 : Nat} {a1 : Option Nat} {a2 : Option Nat} {σ : am_S} {Q : am_S → Prop} (h : f_p σ (some a0) [16] 5 (va_rf a1) (fun σ1 => W_X13_init G d a0 a1 σ1 (fun σ3 => f_na G σ3 6 f_a0r 2 (fun n6 σ7 => f_p σ7 (some a0) [16] 2 (va_rf (some n6)) (fun σ8 => f_na G σ8 2 f_a0i 2 (fun n9 σ10 => f_p σ10 (some a0) [16] 3 (va_rf (some n9)) (fun σ11 => f_p σ11 (some a0) [16] 1 (va_rf a2) (fun σ12 => Q σ12)))))))) : W_X18_init G (d + 1) a0 a1 a2 σ Q := by
  unfold W_X18_init
  refine am_aloadr_n (x := some a0) dX18_init_0 rfl rfl ?_
  refine am_aloadr_n (x := a1) dX18_init_1 rfl rfl ?_
  refine fx_p (k := 5) (v := va_rf a1) (f_putC inf_X18 (by decide) (f_nrf _ _) (f_frf _ _) q1896 (Or.inr ⟨rfl, rfl, rfl⟩) f_put0) dX18_init_2 h (fun σ1 h => ?_)
  refine am_aloadr_n (x := some a0) dX18_init_5 rfl rfl ?_
  refine am_aloadr_n (x := a1) dX18_init_6 rfl rfl ?_
  refine fx_callIN (Mc := m_X13_init) (as := [va_rf a1]) bm_X13_init q1889 q1827 rfl rfl (Nat.le_of_ble_eq_true rfl) dX18_init_7 (mt_X13_init (fx_k2v h (fun σ3 h => ?_) (fun q σ' h => h.elim)))
  refine am_aloadr_n (x := some a0) dX18_init_10 rfl rfl ?_
  refine am_iconst (v := 2) dX18_init_11 (by decide) ?_
  refine fx_nar (τ := 6) q1890 q1891 rfl dX18_init_12 h (fun n6 σ7 h => ?_)
  refine fx_p (k := 2) (v := va_rf (some n6)) (f_putC inf_X18 (by decide) (f_nra _ _) (f_fra _ _) q1893 (Or.inl rfl) f_put0) dX18_init_15 h (fun σ8 h => ?_)
  refine am_aloadr_n (x := some a0) dX18_init_18 rfl rfl ?_
  refine am_iconst (v := 2) dX18_init_19 (by decide) ?_
  refine fx_nai (atype := .char) (τ := 2) q1909 rfl (fun N cA => rfl) dX18_init_20 h (fun n9 σ10 h => ?_)
  refine fx_p (k := 3) (v := va_rf (some n9)) (f_putC inf_X18 (by decide) (f_nra _ _) (f_fra _ _) q1894 (Or.inl rfl) f_put0) dX18_init_22 h (fun σ11 h => ?_)
  refine am_aloadr_n (x := some a0) dX18_init_25 rfl rfl ?_
  refine am_aloadr_n (x := a2) dX18_init_26 rfl rfl ?_
  refine fx_p (k := 1) (v := va_rf a2) (f_putC inf_X18 (by decide) (f_nrf _ _) (f_frf _ _) q1892 (Or.inr ⟨rfl, rfl, rfl⟩) f_put0) dX18_init_27 h (fun σ12 h => ?_)
  exact am_vret rfl dX18_init_30 h
theorem W_X18_add_f {G : am_G} {d : Nat} {a0 : Nat} {a1 : Int32} {a2 : Option Nat} {σ : am_S} {Q : am_S → Prop} (h : f_gi σ (some a0) [16] 4 (fun v1 => f_gr σ (some a0) [16] 3 (fun v2 => f_al σ v2 2 (fun v3 => ((¬ v1 = v3 → B_X18_add_58 G (d + 1) a0 a1 a2 σ Q) ∧ (v1 = v3 → f_gi σ (some a0) [16] 4 (fun v4 => f_na G σ 6 f_a0r (2 * v4) (fun n5 σ6 => f_gr σ6 (some a0) [16] 2 (fun v7 => f_gi σ6 (some a0) [16] 4 (fun v8 => f_cpr σ6 v7 0 (some n5) 0 v8 6 [12, 13, 14, 15, 16] (fun σ9 => f_p σ9 (some a0) [16] 2 (va_rf (some n5)) (fun σ10 => f_gr σ10 (some a0) [16] 3 (fun v11 => f_gi σ10 (some a0) [16] 4 (fun v12 => W_J8_copyOf_5 G d v11 (2 * v12) σ10 (fun v13 σ14 => f_p σ14 (some a0) [16] 3 (va_rf v13) (fun σ17 => B_X18_add_58 G (d + 1) a0 a1 a2 σ17 Q)))))))))))))))) : W_X18_add G (d + 1) a0 a1 a2 σ Q := by
  unfold W_X18_add
  refine am_aloadr_n (x := some a0) dX18_add_0 rfl rfl ?_
  refine fx_gi (k := 4) (f_fldC (ref := "PondHouse$Chain") inf_X18 (by decide) q1895 (Or.inl rfl) f_fld0) dX18_add_1 h (fun v1 h => ?_)
  refine am_aloadr_n (x := some a0) dX18_add_4 rfl rfl ?_
  refine fx_gr (k := 3) (f_fldC (ref := "PondHouse$Chain") inf_X18 (by decide) q1894 (Or.inl rfl) f_fld0) dX18_add_5 h (fun v2 h => ?_)
  refine fx_al (τ := 2) rfl dX18_add_8 h (fun v3 h => ?_)
  refine am_icmp_ne (tgt := 58) dX18_add_9 (by decide) (fun c => ?_) (fun c => ?_)
  · have h := h.1 c
    exact am_lss h rfl
  · have h := h.2 c
    refine am_iconst (v := 2) dX18_add_12 (by decide) ?_
    refine am_aloadr_n (x := some a0) dX18_add_13 rfl rfl ?_
    refine fx_gi (k := 4) (f_fldC (ref := "PondHouse$Chain") inf_X18 (by decide) q1895 (Or.inl rfl) f_fld0) dX18_add_14 h (fun v4 h => ?_)
    refine am_imul dX18_add_17 ?_
    refine fx_nar (τ := 6) q1890 q1891 rfl dX18_add_18 h (fun n5 σ6 h => ?_)
    refine am_astore_n (x := (some n5)) (L' := [(6, va_rf (some n5)), (0, va_rf (some a0)), (2, .int a1), (4, va_rf a2)]) dX18_add_21 rfl (Nat.le_of_ble_eq_true rfl) rfl ?_
    refine am_aloadr_n (x := some a0) dX18_add_22 rfl rfl ?_
    refine fx_gr (k := 2) (f_fldC (ref := "PondHouse$Chain") inf_X18 (by decide) q1893 (Or.inl rfl) f_fld0) dX18_add_23 h (fun v7 h => ?_)
    refine am_iconst (v := 0) dX18_add_26 (by decide) ?_
    refine am_aloadr_n (x := (some n5)) dX18_add_27 rfl rfl ?_
    refine am_iconst (v := 0) dX18_add_28 (by decide) ?_
    refine am_aloadr_n (x := some a0) dX18_add_29 rfl rfl ?_
    refine fx_gi (k := 4) (f_fldC (ref := "PondHouse$Chain") inf_X18 (by decide) q1895 (Or.inl rfl) f_fld0) dX18_add_30 h (fun v8 h => ?_)
    refine fx_cpr (τ := 6) (E := "PondHouse$Worth") (cs := [12, 13, 14, 15, 16]) q1914 q623 q622 q177 rfl (am_mayL (f_clsC inf_X14 (Or.inr q3131) (f_clsC inf_X15 (Or.inr q3132) (f_clsC inf_X16 (Or.inr q3133) (f_clsC inf_X17 (Or.inr q3134) (f_clsC inf_X18 (Or.inr q3135) f_cls0)))))) (Nat.le_of_ble_eq_true rfl) dX18_add_33 h (fun σ9 h => ?_)
    refine am_aloadr_n (x := some a0) dX18_add_36 rfl rfl ?_
    refine am_aloadr_n (x := (some n5)) dX18_add_37 rfl rfl ?_
    refine fx_p (k := 2) (v := va_rf (some n5)) (f_putC inf_X18 (by decide) (f_nra _ _) (f_fra _ _) q1893 (Or.inl rfl) f_put0) dX18_add_38 h (fun σ10 h => ?_)
    refine am_aloadr_n (x := some a0) dX18_add_41 rfl rfl ?_
    refine am_aloadr_n (x := some a0) dX18_add_42 rfl rfl ?_
    refine fx_gr (k := 3) (f_fldC (ref := "PondHouse$Chain") inf_X18 (by decide) q1894 (Or.inl rfl) f_fld0) dX18_add_43 h (fun v11 h => ?_)
    refine am_iconst (v := 2) dX18_add_46 (by decide) ?_
    refine am_aloadr_n (x := some a0) dX18_add_47 rfl rfl ?_
    refine fx_gi (k := 4) (f_fldC (ref := "PondHouse$Chain") inf_X18 (by decide) q1895 (Or.inl rfl) f_fld0) dX18_add_48 h (fun v12 h => ?_)
    refine am_imul dX18_add_51 ?_
    refine fx_callS (Mc := m_J8_copyOf_5) (as := [va_rf v11, .int (2 * v12)]) bm_J8_copyOf_5 q1915 q1916 (Nat.le_of_ble_eq_true rfl) dX18_add_52 (mt_J8_copyOf_5 (fx_k2r h (fun v13 σ14 h => ?_) (fun q σ' h => h.elim)))
    refine fx_p (k := 3) (v := va_rf v13) (f_putC inf_X18 (by decide) (f_nra _ _) (f_fra _ _) q1894 (Or.inl rfl) f_put0) dX18_add_55 h (fun σ17 h => ?_)
    exact am_lss h rfl
theorem B_X18_add_58_f {G : am_G} {d : Nat} {a0 : Nat} {x1 : Int32} {x2 : Option Nat} {σ : am_S} {Q : am_S → Prop} (h : f_gr σ (some a0) [16] 2 (fun v1 => f_gi σ (some a0) [16] 4 (fun v2 => f_sr σ v1 6 [12, 13, 14, 15, 16] v2 x2 (fun σ3 => f_gr σ3 (some a0) [16] 3 (fun v4 => f_gi σ3 (some a0) [16] 4 (fun v5 => f_si σ3 v4 2 v5 x1 (fun σ6 => f_gi σ6 (some a0) [16] 4 (fun v7 => f_p σ6 (some a0) [16] 4 (.int (v7 + 1)) (fun σ8 => Q σ8))))))))) : B_X18_add_58 G (d + 1) a0 x1 x2 σ Q := by
  unfold B_X18_add_58
  refine am_aloadr_n (x := some a0) dX18_add_58 rfl rfl ?_
  refine fx_gr (k := 2) (f_fldC (ref := "PondHouse$Chain") inf_X18 (by decide) q1893 (Or.inl rfl) f_fld0) dX18_add_59 h (fun v1 h => ?_)
  refine am_aloadr_n (x := some a0) dX18_add_62 rfl rfl ?_
  refine fx_gi (k := 4) (f_fldC (ref := "PondHouse$Chain") inf_X18 (by decide) q1895 (Or.inl rfl) f_fld0) dX18_add_63 h (fun v2 h => ?_)
  refine am_aloadr_n (x := x2) dX18_add_66 rfl rfl ?_
  refine fx_sr (τ := 6) (E := "PondHouse$Worth") (cs := [12, 13, 14, 15, 16]) (v := x2) rfl (f_clsC inf_X14 (Or.inr q3131) (f_clsC inf_X15 (Or.inr q3132) (f_clsC inf_X16 (Or.inr q3133) (f_clsC inf_X17 (Or.inr q3134) (f_clsC inf_X18 (Or.inr q3135) f_cls0))))) dX18_add_67 h (fun σ3 h => ?_)
  refine am_aloadr_n (x := some a0) dX18_add_68 rfl rfl ?_
  refine fx_gr (k := 3) (f_fldC (ref := "PondHouse$Chain") inf_X18 (by decide) q1894 (Or.inl rfl) f_fld0) dX18_add_69 h (fun v4 h => ?_)
  refine am_aloadr_n (x := some a0) dX18_add_72 rfl rfl ?_
  refine fx_gi (k := 4) (f_fldC (ref := "PondHouse$Chain") inf_X18 (by decide) q1895 (Or.inl rfl) f_fld0) dX18_add_73 h (fun v5 h => ?_)
  refine am_iload_n (x := x1) dX18_add_76 rfl rfl ?_
  refine fx_si2 dX18_add_77 h (fun σ6 h => ?_)
  refine am_aloadr_n (x := some a0) dX18_add_78 rfl rfl ?_
  refine am_dup dX18_add_79 (am_rf_cat _) ?_
  refine fx_gi (k := 4) (f_fldC (ref := "PondHouse$Chain") inf_X18 (by decide) q1895 (Or.inl rfl) f_fld0) dX18_add_80 h (fun v7 h => ?_)
  refine am_iconst (v := 1) dX18_add_83 (by decide) ?_
  refine am_iadd dX18_add_84 ?_
  refine fx_p (k := 4) (v := .int (v7 + 1)) (f_putC inf_X18 (by decide) rfl rfl q1895 (Or.inl rfl) f_put0) dX18_add_85 h (fun σ8 h => ?_)
  exact am_vret rfl dX18_add_88 h
theorem W_X19_does_f {G : am_G} {d : Nat} {a0 : Nat} {a1 : Option Nat} {σ : am_S} {Q : Int32 → am_S → Prop} {E : Nat → am_S → Prop} (h : f_gr σ (some a0) [17] 2 (fun v1 => f_nn v1 (fun b => V_X13_of G d b a1 σ (fun v2 σ3 => f_gr σ3 a1 [1] 0 (fun v6 => f_gi σ3 (some a0) [17] 1 (fun v7 => f_o σ3 v6 [31] (fun b => W_X34_set G d b v7 v2 σ3 (fun σ9 => Q 1 σ9) E)))) E))) : W_X19_does G (d + 1) a0 a1 σ Q E := by
  unfold W_X19_does
  refine am_aloadr_n (x := some a0) dX19_does_0 rfl rfl ?_
  refine fx_gr (k := 2) (f_fldC (ref := "PondHouse$Sets") inf_X19 (by decide) q1960 (Or.inl rfl) f_fld0) dX19_does_1 h (fun v1 h => ?_)
  refine am_aloadr_n (x := a1) dX19_does_4 rfl rfl ?_
  refine fv_X13_of q483 dX19_does_5 (Nat.le_of_ble_eq_true rfl) h (fun v2 σ3 h => ?_) (fun q σ' h => am_xout (by decide +kernel) h)
  refine am_istore_n (L' := [(4, .int v2), (0, va_rf (some a0)), (2, va_rf a1)]) dX19_does_8 rfl (Nat.le_of_ble_eq_true rfl) rfl ?_
  refine am_aloadr_n (x := a1) dX19_does_9 rfl rfl ?_
  refine fx_gr (k := 0) (f_fldC (ref := "PondHouse$Frame") inf_X1 (by decide) q308 (Or.inl rfl) f_fld0) dX19_does_10 h (fun v6 h => ?_)
  refine am_aloadr_n (x := some a0) dX19_does_13 rfl rfl ?_
  refine fx_gi (k := 1) (f_fldC (ref := "PondHouse$Sets") inf_X19 (by decide) q1959 (Or.inl rfl) f_fld0) dX19_does_14 h (fun v7 h => ?_)
  refine am_iload_n (x := v2) dX19_does_17 rfl rfl ?_
  refine fx_callV (Mc := m_X34_set) (as := [.int v7, .int v2]) (cs := [31]) (r := v6) (f_clsC inf_X34 q486 f_cls0) bm_X34_set q484 q485 (Nat.le_of_ble_eq_true rfl) dX19_does_18 h (fun b h => mt_X34_set (fx_k2v h (fun σ9 h => ?_) (fun q σ' h => am_xout (by decide +kernel) h)))
  refine am_iconst (v := 1) dX19_does_21 (by decide) ?_
  exact am_zret rfl rfl dX19_does_22 h
theorem W_X19_init_f {G : am_G} {d : Nat} {a0 : Nat} {a1 : Option Nat} {a2 : Int32} {a3 : Option Nat} {σ : am_S} {Q : am_S → Prop} (h : f_p σ (some a0) [17] 3 (va_rf a1) (fun σ1 => W_X11_init G d a0 a1 σ1 (fun σ3 => f_p σ3 (some a0) [17] 1 (.int a2) (fun σ6 => f_p σ6 (some a0) [17] 2 (va_rf a3) (fun σ7 => Q σ7))))) : W_X19_init G (d + 1) a0 a1 a2 a3 σ Q := by
  unfold W_X19_init
  refine am_aloadr_n (x := some a0) dX19_init_0 rfl rfl ?_
  refine am_aloadr_n (x := a1) dX19_init_1 rfl rfl ?_
  refine fx_p (k := 3) (v := va_rf a1) (f_putC inf_X19 (by decide) (f_nrf _ _) (f_frf _ _) q1961 (Or.inr ⟨rfl, rfl, rfl⟩) f_put0) dX19_init_2 h (fun σ1 h => ?_)
  refine am_aloadr_n (x := some a0) dX19_init_5 rfl rfl ?_
  refine am_aloadr_n (x := a1) dX19_init_6 rfl rfl ?_
  refine fx_callIN (Mc := m_X11_init) (as := [va_rf a1]) bm_X11_init q1958 q1927 rfl rfl (Nat.le_of_ble_eq_true rfl) dX19_init_7 (mt_X11_init (fx_k2v h (fun σ3 h => ?_) (fun q σ' h => h.elim)))
  refine am_aloadr_n (x := some a0) dX19_init_10 rfl rfl ?_
  refine am_iload_n (x := a2) dX19_init_11 rfl rfl ?_
  refine fx_p (k := 1) (v := .int a2) (f_putC inf_X19 (by decide) rfl rfl q1959 (Or.inr ⟨rfl, rfl, rfl⟩) f_put0) dX19_init_12 h (fun σ6 h => ?_)
  refine am_aloadr_n (x := some a0) dX19_init_15 rfl rfl ?_
  refine am_aloadr_n (x := a3) dX19_init_16 rfl rfl ?_
  refine fx_p (k := 2) (v := va_rf a3) (f_putC inf_X19 (by decide) (f_nrf _ _) (f_frf _ _) q1960 (Or.inr ⟨rfl, rfl, rfl⟩) f_put0) dX19_init_17 h (fun σ7 h => ?_)
  exact am_vret rfl dX19_init_20 h
theorem W_X2_init_f {G : am_G} {d : Nat} {a0 : Nat} {σ : am_S} {Q : am_S → Prop} (h : W_J1_init G d a0 none none 0 0 σ (fun σ2 => Q σ2)) : W_X2_init G (d + 1) a0 σ Q := by
  unfold W_X2_init
  refine am_aloadr_n (x := some a0) dX2_init_0 rfl rfl ?_
  refine am_null dX2_init_1 ?_
  refine am_null dX2_init_2 ?_
  refine am_iconst (v := 0) dX2_init_3 (by decide) ?_
  refine am_iconst (v := 0) dX2_init_4 (by decide) ?_
  refine fx_callI (Mc := m_J1_init) (as := [va_rf none, va_rf none, .int 0, .int 0]) bm_J1_init q1126 q1127 rfl rfl (Nat.le_of_ble_eq_true rfl) dX2_init_5 (mt_J1_init (fx_k2v h (fun σ2 h => ?_) (fun q σ' h => h.elim)))
  exact am_vret rfl dX2_init_8 h
theorem W_X20_does_f {G : am_G} {d : Nat} {a0 : Nat} {a1 : Option Nat} {σ : am_S} {Q : Int32 → am_S → Prop} {E : Nat → am_S → Prop} (h : f_gr σ (some a0) [18] 1 (fun v1 => f_nn v1 (fun b => V_X13_of G d b a1 σ (fun v2 σ3 => f_gi σ3 (some a0) [18] 2 (fun v6 => ((v6 = 0 → f_p σ3 a1 [1] 4 (.int v2) (fun σ7 => Q 0 σ7)) ∧ (¬ v6 = 0 → f_gr σ3 (some a0) [18] 3 (fun v8 => f_o σ3 v8 [0] (fun b => W_X0_fails G d b v2 σ3 (fun v9 σ10 => f_o σ10 v9 [2] (fun q => E q σ10)))))))) E))) : W_X20_does G (d + 1) a0 a1 σ Q E := by
  unfold W_X20_does
  refine am_aloadr_n (x := some a0) dX20_does_0 rfl rfl ?_
  refine fx_gr (k := 1) (f_fldC (ref := "PondHouse$Gives") inf_X20 (by decide) q1976 (Or.inl rfl) f_fld0) dX20_does_1 h (fun v1 h => ?_)
  refine am_aloadr_n (x := a1) dX20_does_4 rfl rfl ?_
  refine fv_X13_of q475 dX20_does_5 (Nat.le_of_ble_eq_true rfl) h (fun v2 σ3 h => ?_) (fun q σ' h => am_xout (by decide +kernel) h)
  refine am_istore_n (L' := [(4, .int v2), (0, va_rf (some a0)), (2, va_rf a1)]) dX20_does_8 rfl (Nat.le_of_ble_eq_true rfl) rfl ?_
  refine am_aloadr_n (x := some a0) dX20_does_9 rfl rfl ?_
  refine fx_gi (k := 2) (f_fldC (ref := "PondHouse$Gives") inf_X20 (by decide) q1977 (Or.inl rfl) f_fld0) dX20_does_10 h (fun v6 h => ?_)
  refine am_if_eq (tgt := 25) dX20_does_13 (by decide) (fun c => ?_) (fun c => ?_)
  · have h := h.1 c
    refine am_aloadr_n (x := a1) dX20_does_25 rfl rfl ?_
    refine am_iload_n (x := v2) dX20_does_26 rfl rfl ?_
    refine fx_p (k := 4) (v := .int v2) (f_putC inf_X1 (by decide) rfl rfl q321 (Or.inl rfl) f_put0) dX20_does_27 h (fun σ7 h => ?_)
    refine am_iconst (v := 0) dX20_does_30 (by decide) ?_
    exact am_zret rfl rfl dX20_does_31 h
  · have h := h.2 c
    refine am_aloadr_n (x := some a0) dX20_does_16 rfl rfl ?_
    refine fx_gr (k := 3) (f_fldC (ref := "PondHouse$Gives") inf_X20 (by decide) q1978 (Or.inl rfl) f_fld0) dX20_does_17 h (fun v8 h => ?_)
    refine am_iload_n (x := v2) dX20_does_20 rfl rfl ?_
    refine fx_callVN (Mc := m_X0_fails) (as := [.int v2]) (cs := [0]) (r := v8) (f_clsC inf_X0 qs12 f_cls0) bm_X0_fails q476 q427 (Nat.le_of_ble_eq_true rfl) dX20_does_21 h (fun b h => mt_X0_fails (fx_k2r h (fun v9 σ10 h => ?_) (fun q σ' h => h.elim)))
    exact fx_throw (cs := [2]) dX20_does_24 h (fun q h => am_xout (by decide +kernel) h)
theorem W_X20_init_f {G : am_G} {d : Nat} {a0 : Nat} {a1 : Option Nat} {a2 : Option Nat} {a3 : Int32} {σ : am_S} {Q : am_S → Prop} (h : f_p σ (some a0) [18] 3 (va_rf a1) (fun σ1 => W_X11_init G d a0 a1 σ1 (fun σ3 => f_p σ3 (some a0) [18] 1 (va_rf a2) (fun σ6 => ((a3 = 0 ∨ a3 = 1) ∧ f_p σ6 (some a0) [18] 2 (.int a3) (fun σ7 => Q σ7)))))) : W_X20_init G (d + 1) a0 a1 a2 a3 σ Q := by
  unfold W_X20_init
  refine am_aloadr_n (x := some a0) dX20_init_0 rfl rfl ?_
  refine am_aloadr_n (x := a1) dX20_init_1 rfl rfl ?_
  refine fx_p (k := 3) (v := va_rf a1) (f_putC inf_X20 (by decide) (f_nrf _ _) (f_frf _ _) q1978 (Or.inr ⟨rfl, rfl, rfl⟩) f_put0) dX20_init_2 h (fun σ1 h => ?_)
  refine am_aloadr_n (x := some a0) dX20_init_5 rfl rfl ?_
  refine am_aloadr_n (x := a1) dX20_init_6 rfl rfl ?_
  refine fx_callIN (Mc := m_X11_init) (as := [va_rf a1]) bm_X11_init q1975 q1927 rfl rfl (Nat.le_of_ble_eq_true rfl) dX20_init_7 (mt_X11_init (fx_k2v h (fun σ3 h => ?_) (fun q σ' h => h.elim)))
  refine am_aloadr_n (x := some a0) dX20_init_10 rfl rfl ?_
  refine am_aloadr_n (x := a2) dX20_init_11 rfl rfl ?_
  refine fx_p (k := 1) (v := va_rf a2) (f_putC inf_X20 (by decide) (f_nrf _ _) (f_frf _ _) q1976 (Or.inr ⟨rfl, rfl, rfl⟩) f_put0) dX20_init_12 h (fun σ6 h => ?_)
  refine am_aloadr_n (x := some a0) dX20_init_15 rfl rfl ?_
  refine am_iload_n (x := a3) dX20_init_16 rfl rfl ?_
  refine fx_p (k := 2) (v := .int a3) (f_putC inf_X20 (by decide) (f_nz h.1) (f_fz h.1) q1977 (Or.inr ⟨rfl, rfl, rfl⟩) f_put0) dX20_init_17 h.2 (fun σ7 h => ?_)
  exact am_vret rfl dX20_init_20 h
theorem W_X21_does_f {G : am_G} {d : Nat} {a0 : Nat} {a1 : Option Nat} {σ : am_S} {Q : Int32 → am_S → Prop} {E : Nat → am_S → Prop} (h : f_gi σ (some a0) [19] 2 (fun v1 => ((¬ v1 = (-1) → f_gr σ a1 [1] 0 (fun v2 => f_gi σ (some a0) [19] 1 (fun v3 => ((v3 = (-1) → B_X21_does_120 G (d + 1) a0 a1 v2 σ Q E) ∧ (¬ v3 = (-1) → f_gr σ (some a0) [19] 3 (fun v4 => f_gi σ (some a0) [19] 1 (fun v5 => f_o σ v2 [31] (fun b => W_X34_get G d b v5 σ (fun v6 σ7 => f_o σ7 v4 [0] (fun b => W_X0_living G d b v6 σ7 (fun v10 σ11 => ((¬ v10 = none → B_X21_does_120 G (d + 1) a0 a1 v10 σ11 Q E) ∧ (v10 = none → f_gr σ11 (some a0) [19] 3 (fun v14 => f_o σ11 v14 [0] (fun b => W_X0_fails G d b 1003 σ11 (fun v15 σ16 => f_o σ16 v15 [2] (fun q => E q σ16))))))))) E)))))))) ∧ (v1 = (-1) → f_gr σ a1 [1] 1 (fun v19 => f_gr σ v19 [22] 0 (fun v20 => f_gr σ v20 [21] 2 (fun v21 => ((¬ v21 = none → f_gr σ a1 [1] 1 (fun v22 => f_gr σ v22 [22] 0 (fun v23 => f_gr σ v23 [21] 2 (fun v24 => f_gr σ a1 [1] 1 (fun v25 => f_gi σ v25 [22] 1 (fun v26 => f_o σ v24 [21] (fun b => W_X23_body G d b v26 σ (fun v27 σ28 => B_X21_does_45 G (d + 1) a0 a1 v27 σ28 Q E)))))))) ∧ (v21 = none → B_X21_does_45 G (d + 1) a0 a1 none σ Q E))))))))) : W_X21_does G (d + 1) a0 a1 σ Q E := by
  unfold W_X21_does
  refine am_aloadr_n (x := some a0) dX21_does_0 rfl rfl ?_
  refine fx_gi (k := 2) (f_fldC (ref := "PondHouse$Calls") inf_X21 (by decide) q1994 (Or.inl rfl) f_fld0) dX21_does_1 h (fun v1 h => ?_)
  refine am_iconst (v := (-1)) dX21_does_4 (by decide) ?_
  refine am_icmp_ne (tgt := 76) dX21_does_5 (by decide) (fun c => ?_) (fun c => ?_)
  · have h := h.1 c
    refine am_aloadr_n (x := a1) dX21_does_76 rfl rfl ?_
    refine fx_gr (k := 0) (f_fldC (ref := "PondHouse$Frame") inf_X1 (by decide) q309 (Or.inl rfl) f_fld0) dX21_does_77 h (fun v2 h => ?_)
    refine am_astore_n (x := v2) (L' := [(4, va_rf v2), (0, va_rf (some a0)), (2, va_rf a1)]) dX21_does_80 rfl (Nat.le_of_ble_eq_true rfl) rfl ?_
    refine am_aloadr_n (x := some a0) dX21_does_81 rfl rfl ?_
    refine fx_gi (k := 1) (f_fldC (ref := "PondHouse$Calls") inf_X21 (by decide) q1993 (Or.inl rfl) f_fld0) dX21_does_82 h (fun v3 h => ?_)
    refine am_iconst (v := (-1)) dX21_does_85 (by decide) ?_
    refine am_icmp_eq (tgt := 120) dX21_does_86 (by decide) (fun c => ?_) (fun c => ?_)
    · have h := h.1 c
      exact am_lss h rfl
    · have h := h.2 c
      refine am_aloadr_n (x := some a0) dX21_does_89 rfl rfl ?_
      refine fx_gr (k := 3) (f_fldC (ref := "PondHouse$Calls") inf_X21 (by decide) q1995 (Or.inl rfl) f_fld0) dX21_does_90 h (fun v4 h => ?_)
      refine am_aloadr_n (x := v2) dX21_does_93 rfl rfl ?_
      refine am_aloadr_n (x := some a0) dX21_does_94 rfl rfl ?_
      refine fx_gi (k := 1) (f_fldC (ref := "PondHouse$Calls") inf_X21 (by decide) q1993 (Or.inl rfl) f_fld0) dX21_does_95 h (fun v5 h => ?_)
      refine fx_callV (Mc := m_X34_get) (as := [.int v5]) (cs := [31]) (r := v2) (f_clsC inf_X34 q431 f_cls0) bm_X34_get q429 q430 (Nat.le_of_ble_eq_true rfl) dX21_does_98 h (fun b h => mt_X34_get (fx_k2i h (fun v6 σ7 h => ?_) (fun q σ' h => am_xout (by decide +kernel) h)))
      refine fx_callVN (Mc := m_X0_living) (as := [.int v6]) (cs := [0]) (r := v4) (f_clsC inf_X0 qs4 f_cls0) bm_X0_living q439 q289 (Nat.le_of_ble_eq_true rfl) dX21_does_101 h (fun b h => mt_X0_living (fx_k2r h (fun v10 σ11 h => ?_) (fun q σ' h => h.elim)))
      refine am_astore_n (x := v10) (L' := [(4, va_rf v10), (0, va_rf (some a0)), (2, va_rf a1)]) dX21_does_104 rfl (Nat.le_of_ble_eq_true rfl) rfl ?_
      refine am_aloadr_n (x := v10) dX21_does_105 rfl rfl ?_
      refine am_ifnonnullr (tgt := 120) dX21_does_106 (by decide) (fun c => ?_) (fun c => ?_)
      · have h := h.1 c
        exact am_lss h rfl
      · have h := h.2 c
        refine am_aloadr_n (x := some a0) dX21_does_109 rfl rfl ?_
        refine fx_gr (k := 3) (f_fldC (ref := "PondHouse$Calls") inf_X21 (by decide) q1995 (Or.inl rfl) f_fld0) dX21_does_110 h (fun v14 h => ?_)
        refine am_sipush (v := 1003) dX21_does_113 (by decide) ?_
        refine fx_callVN (Mc := m_X0_fails) (as := [.int 1003]) (cs := [0]) (r := v14) (f_clsC inf_X0 qs12 f_cls0) bm_X0_fails q440 q427 (Nat.le_of_ble_eq_true rfl) dX21_does_116 h (fun b h => mt_X0_fails (fx_k2r h (fun v15 σ16 h => ?_) (fun q σ' h => h.elim)))
        exact fx_throw (cs := [2]) dX21_does_119 h (fun q h => am_xout (by decide +kernel) h)
  · have h := h.2 c
    refine am_aloadr_n (x := a1) dX21_does_8 rfl rfl ?_
    refine fx_gr (k := 1) (f_fldC (ref := "PondHouse$Frame") inf_X1 (by decide) q312 (Or.inl rfl) f_fld0) dX21_does_9 h (fun v19 h => ?_)
    refine fx_gr (k := 0) (f_fldC (ref := "PondHouse$Body") inf_X24 (by decide) q888 (Or.inl rfl) f_fld0) dX21_does_12 h (fun v20 h => ?_)
    refine fx_gr (k := 2) (f_fldC (ref := "PondHouse$Kind") inf_X23 (by decide) q912 (Or.inl rfl) f_fld0) dX21_does_15 h (fun v21 h => ?_)
    refine am_ifnonnullr (tgt := 25) dX21_does_18 (by decide) (fun c => ?_) (fun c => ?_)
    · have h := h.1 c
      refine am_aloadr_n (x := a1) dX21_does_25 rfl rfl ?_
      refine fx_gr (k := 1) (f_fldC (ref := "PondHouse$Frame") inf_X1 (by decide) q312 (Or.inl rfl) f_fld0) dX21_does_26 h (fun v22 h => ?_)
      refine fx_gr (k := 0) (f_fldC (ref := "PondHouse$Body") inf_X24 (by decide) q888 (Or.inl rfl) f_fld0) dX21_does_29 h (fun v23 h => ?_)
      refine fx_gr (k := 2) (f_fldC (ref := "PondHouse$Kind") inf_X23 (by decide) q912 (Or.inl rfl) f_fld0) dX21_does_32 h (fun v24 h => ?_)
      refine am_aloadr_n (x := a1) dX21_does_35 rfl rfl ?_
      refine fx_gr (k := 1) (f_fldC (ref := "PondHouse$Frame") inf_X1 (by decide) q312 (Or.inl rfl) f_fld0) dX21_does_36 h (fun v25 h => ?_)
      refine fx_gi (k := 1) (f_fldC (ref := "PondHouse$Body") inf_X24 (by decide) q892 (Or.inl rfl) f_fld0) dX21_does_39 h (fun v26 h => ?_)
      refine fx_callV (Mc := m_X23_body) (as := [.int v26]) (cs := [21]) (r := v24) (f_clsC inf_X23 q293 f_cls0) bm_X23_body q420 q292 (Nat.le_of_ble_eq_true rfl) dX21_does_42 h (fun b h => mt_X23_body (fx_k2r h (fun v27 σ28 h => ?_) (fun q σ' h => h.elim)))
      exact am_lss h rfl
    · have h := h.2 c
      refine am_null dX21_does_21 ?_
      refine am_goto (tgt := 45) dX21_does_22 (by decide) ?_
      exact am_lss h rfl
theorem B_X21_does_45_f {G : am_G} {d : Nat} {a0 : Nat} {x1 : Option Nat} {s0 : Option Nat} {σ : am_S} {Q : Int32 → am_S → Prop} {E : Nat → am_S → Prop} (h : ((¬ s0 = none → f_gr σ (some a0) [19] 3 (fun v1 => f_gr σ x1 [1] 0 (fun v2 => f_gi σ x1 [1] 2 (fun v3 => f_o σ v1 [0] (fun b => W_X0_called G d b v2 s0 v3 σ (fun v4 σ5 => f_p σ5 x1 [1] 3 (.int v4) (fun σ8 => Q 1 σ8)) E))))) ∧ (s0 = none → f_p σ x1 [1] 3 (.int 0) (fun σ9 => Q 1 σ9)))) : B_X21_does_45 G (d + 1) a0 x1 s0 σ Q E := by
  unfold B_X21_does_45
  refine am_astore_n (x := s0) (L' := [(4, va_rf s0), (0, va_rf (some a0)), (2, va_rf x1)]) dX21_does_45 rfl (Nat.le_of_ble_eq_true rfl) rfl ?_
  refine am_aloadr_n (x := x1) dX21_does_46 rfl rfl ?_
  refine am_aloadr_n (x := s0) dX21_does_47 rfl rfl ?_
  refine am_ifnonnullr (tgt := 55) dX21_does_48 (by decide) (fun c => ?_) (fun c => ?_)
  · have h := h.1 c
    refine am_aloadr_n (x := some a0) dX21_does_55 rfl rfl ?_
    refine fx_gr (k := 3) (f_fldC (ref := "PondHouse$Calls") inf_X21 (by decide) q1995 (Or.inl rfl) f_fld0) dX21_does_56 h (fun v1 h => ?_)
    refine am_aloadr_n (x := x1) dX21_does_59 rfl rfl ?_
    refine fx_gr (k := 0) (f_fldC (ref := "PondHouse$Frame") inf_X1 (by decide) q309 (Or.inl rfl) f_fld0) dX21_does_60 h (fun v2 h => ?_)
    refine am_aloadr_n (x := s0) dX21_does_63 rfl rfl ?_
    refine am_aloadr_n (x := x1) dX21_does_64 rfl rfl ?_
    refine fx_gi (k := 2) (f_fldC (ref := "PondHouse$Frame") inf_X1 (by decide) q316 (Or.inl rfl) f_fld0) dX21_does_65 h (fun v3 h => ?_)
    refine fx_callVN (Mc := m_X0_called) (as := [va_rf v2, va_rf s0, .int v3]) (cs := [0]) (r := v1) (f_clsC inf_X0 qs11 f_cls0) bm_X0_called q421 q423 (Nat.le_of_ble_eq_true rfl) dX21_does_68 h (fun b h => mt_X0_called (fx_k2i h (fun v4 σ5 h => ?_) (fun q σ' h => am_xout (by decide +kernel) h)))
    refine fx_p (k := 3) (v := .int v4) (f_putC inf_X1 (by decide) rfl rfl q319 (Or.inl rfl) f_put0) dX21_does_71 h (fun σ8 h => ?_)
    refine am_iconst (v := 1) dX21_does_74 (by decide) ?_
    exact am_zret rfl rfl dX21_does_75 h
  · have h := h.2 c
    refine am_iconst (v := 0) dX21_does_51 (by decide) ?_
    refine am_goto (tgt := 71) dX21_does_52 (by decide) ?_
    refine fx_p (k := 3) (v := .int 0) (f_putC inf_X1 (by decide) rfl rfl q319 (Or.inl rfl) f_put0) dX21_does_71 h (fun σ9 h => ?_)
    refine am_iconst (v := 1) dX21_does_74 (by decide) ?_
    exact am_zret rfl rfl dX21_does_75 h
theorem B_X21_does_120_f {G : am_G} {d : Nat} {a0 : Nat} {x1 : Option Nat} {x2 : Option Nat} {σ : am_S} {Q : Int32 → am_S → Prop} {E : Nat → am_S → Prop} (h : f_gr σ x2 [31] 1 (fun v1 => f_gi σ (some a0) [19] 2 (fun v2 => f_o σ v1 [21] (fun b => W_X23_body G d b v2 σ (fun v3 σ4 => ((¬ v3 = none → f_gr σ4 (some a0) [19] 3 (fun v7 => f_o σ4 v7 [0] (fun b => W_X0_called G d b x2 v3 0 σ4 (fun v8 σ9 => f_p σ9 x1 [1] 3 (.int v8) (fun σ12 => Q 1 σ12)) E))) ∧ (v3 = none → f_gr σ4 (some a0) [19] 3 (fun v13 => f_o σ4 v13 [0] (fun b => W_X0_fails G d b 1004 σ4 (fun v14 σ15 => f_o σ15 v14 [2] (fun q => E q σ15))))))))))) : B_X21_does_120 G (d + 1) a0 x1 x2 σ Q E := by
  unfold B_X21_does_120
  refine am_aloadr_n (x := x2) dX21_does_120 rfl rfl ?_
  refine fx_gr (k := 1) (f_fldC (ref := "PondHouse$Creature") inf_X34 (by decide) q2252 (Or.inl rfl) f_fld0) dX21_does_121 h (fun v1 h => ?_)
  refine am_aloadr_n (x := some a0) dX21_does_124 rfl rfl ?_
  refine fx_gi (k := 2) (f_fldC (ref := "PondHouse$Calls") inf_X21 (by decide) q1994 (Or.inl rfl) f_fld0) dX21_does_125 h (fun v2 h => ?_)
  refine fx_callV (Mc := m_X23_body) (as := [.int v2]) (cs := [21]) (r := v1) (f_clsC inf_X23 q293 f_cls0) bm_X23_body q420 q292 (Nat.le_of_ble_eq_true rfl) dX21_does_128 h (fun b h => mt_X23_body (fx_k2r h (fun v3 σ4 h => ?_) (fun q σ' h => h.elim)))
  refine am_astore_n (x := v3) (L' := [(6, va_rf v3), (0, va_rf (some a0)), (2, va_rf x1), (4, va_rf x2)]) dX21_does_131 rfl (Nat.le_of_ble_eq_true rfl) rfl ?_
  refine am_aloadr_n (x := v3) dX21_does_132 rfl rfl ?_
  refine am_ifnonnullr (tgt := 147) dX21_does_133 (by decide) (fun c => ?_) (fun c => ?_)
  · have h := h.1 c
    refine am_aloadr_n (x := x1) dX21_does_147 rfl rfl ?_
    refine am_aloadr_n (x := some a0) dX21_does_148 rfl rfl ?_
    refine fx_gr (k := 3) (f_fldC (ref := "PondHouse$Calls") inf_X21 (by decide) q1995 (Or.inl rfl) f_fld0) dX21_does_149 h (fun v7 h => ?_)
    refine am_aloadr_n (x := x2) dX21_does_152 rfl rfl ?_
    refine am_aloadr_n (x := v3) dX21_does_153 rfl rfl ?_
    refine am_iconst (v := 0) dX21_does_154 (by decide) ?_
    refine fx_callVN (Mc := m_X0_called) (as := [va_rf x2, va_rf v3, .int 0]) (cs := [0]) (r := v7) (f_clsC inf_X0 qs11 f_cls0) bm_X0_called q421 q423 (Nat.le_of_ble_eq_true rfl) dX21_does_155 h (fun b h => mt_X0_called (fx_k2i h (fun v8 σ9 h => ?_) (fun q σ' h => am_xout (by decide +kernel) h)))
    refine fx_p (k := 3) (v := .int v8) (f_putC inf_X1 (by decide) rfl rfl q319 (Or.inl rfl) f_put0) dX21_does_158 h (fun σ12 h => ?_)
    refine am_iconst (v := 1) dX21_does_161 (by decide) ?_
    exact am_zret rfl rfl dX21_does_162 h
  · have h := h.2 c
    refine am_aloadr_n (x := some a0) dX21_does_136 rfl rfl ?_
    refine fx_gr (k := 3) (f_fldC (ref := "PondHouse$Calls") inf_X21 (by decide) q1995 (Or.inl rfl) f_fld0) dX21_does_137 h (fun v13 h => ?_)
    refine am_sipush (v := 1004) dX21_does_140 (by decide) ?_
    refine fx_callVN (Mc := m_X0_fails) (as := [.int 1004]) (cs := [0]) (r := v13) (f_clsC inf_X0 qs12 f_cls0) bm_X0_fails q440 q427 (Nat.le_of_ble_eq_true rfl) dX21_does_143 h (fun b h => mt_X0_fails (fx_k2r h (fun v14 σ15 h => ?_) (fun q σ' h => h.elim)))
    exact fx_throw (cs := [2]) dX21_does_146 h (fun q h => am_xout (by decide +kernel) h)
theorem W_X21_init_f {G : am_G} {d : Nat} {a0 : Nat} {a1 : Option Nat} {a2 : Int32} {a3 : Int32} {σ : am_S} {Q : am_S → Prop} (h : f_p σ (some a0) [19] 3 (va_rf a1) (fun σ1 => W_X11_init G d a0 a1 σ1 (fun σ3 => f_p σ3 (some a0) [19] 1 (.int a2) (fun σ6 => f_p σ6 (some a0) [19] 2 (.int a3) (fun σ7 => Q σ7))))) : W_X21_init G (d + 1) a0 a1 a2 a3 σ Q := by
  unfold W_X21_init
  refine am_aloadr_n (x := some a0) dX21_init_0 rfl rfl ?_
  refine am_aloadr_n (x := a1) dX21_init_1 rfl rfl ?_
  refine fx_p (k := 3) (v := va_rf a1) (f_putC inf_X21 (by decide) (f_nrf _ _) (f_frf _ _) q1995 (Or.inr ⟨rfl, rfl, rfl⟩) f_put0) dX21_init_2 h (fun σ1 h => ?_)
  refine am_aloadr_n (x := some a0) dX21_init_5 rfl rfl ?_
  refine am_aloadr_n (x := a1) dX21_init_6 rfl rfl ?_
  refine fx_callIN (Mc := m_X11_init) (as := [va_rf a1]) bm_X11_init q1992 q1927 rfl rfl (Nat.le_of_ble_eq_true rfl) dX21_init_7 (mt_X11_init (fx_k2v h (fun σ3 h => ?_) (fun q σ' h => h.elim)))
  refine am_aloadr_n (x := some a0) dX21_init_10 rfl rfl ?_
  refine am_iload_n (x := a2) dX21_init_11 rfl rfl ?_
  refine fx_p (k := 1) (v := .int a2) (f_putC inf_X21 (by decide) rfl rfl q1993 (Or.inr ⟨rfl, rfl, rfl⟩) f_put0) dX21_init_12 h (fun σ6 h => ?_)
  refine am_aloadr_n (x := some a0) dX21_init_15 rfl rfl ?_
  refine am_iload_n (x := a3) dX21_init_16 rfl rfl ?_
  refine fx_p (k := 2) (v := .int a3) (f_putC inf_X21 (by decide) rfl rfl q1994 (Or.inr ⟨rfl, rfl, rfl⟩) f_put0) dX21_init_17 h (fun σ7 h => ?_)
  exact am_vret rfl dX21_init_20 h
theorem W_X22_does_f {G : am_G} {d : Nat} {a0 : Nat} {a1 : Option Nat} {σ : am_S} {Q : Int32 → am_S → Prop} (h : Q 1 σ) : W_X22_does G d a0 a1 σ Q := by
  unfold W_X22_does
  refine am_iconst (v := 1) dX22_does_0 (by decide) ?_
  exact am_zret rfl rfl dX22_does_1 h
theorem W_X22_init_f {G : am_G} {d : Nat} {a0 : Nat} {a1 : Option Nat} {σ : am_S} {Q : am_S → Prop} (h : f_p σ (some a0) [20] 1 (va_rf a1) (fun σ1 => W_X11_init G d a0 a1 σ1 (fun σ3 => Q σ3))) : W_X22_init G (d + 1) a0 a1 σ Q := by
  unfold W_X22_init
  refine am_aloadr_n (x := some a0) dX22_init_0 rfl rfl ?_
  refine am_aloadr_n (x := a1) dX22_init_1 rfl rfl ?_
  refine fx_p (k := 1) (v := va_rf a1) (f_putC inf_X22 (by decide) (f_nrf _ _) (f_frf _ _) q2010 (Or.inr ⟨rfl, rfl, rfl⟩) f_put0) dX22_init_2 h (fun σ1 h => ?_)
  refine am_aloadr_n (x := some a0) dX22_init_5 rfl rfl ?_
  refine am_aloadr_n (x := a1) dX22_init_6 rfl rfl ?_
  refine fx_callIN (Mc := m_X11_init) (as := [va_rf a1]) bm_X11_init q2009 q1927 rfl rfl (Nat.le_of_ble_eq_true rfl) dX22_init_7 (mt_X11_init (fx_k2v h (fun σ3 h => ?_) (fun q σ' h => h.elim)))
  exact am_vret rfl dX22_init_10 h
theorem W_X23_all_f {G : am_G} {d : Nat} {a0 : Nat} {σ : am_S} {Q : Int32 → am_S → Prop} (h : f_gr σ (some a0) [21] 3 (fun v1 => f_al σ v1 0 (fun v2 => f_gr σ (some a0) [21] 2 (fun v3 => ((¬ v3 = none → f_gr σ (some a0) [21] 2 (fun v4 => f_o σ v4 [21] (fun b => W_X23_all G d b σ (fun v5 σ6 => Q (v2 + v5) σ6)))) ∧ (v3 = none → Q (v2 + 0) σ)))))) : W_X23_all G (d + 1) a0 σ Q := by
  unfold W_X23_all
  refine am_aloadr_n (x := some a0) dX23_all_0 rfl rfl ?_
  refine fx_gr (k := 3) (f_fldC (ref := "PondHouse$Kind") inf_X23 (by decide) q914 (Or.inl rfl) f_fld0) dX23_all_1 h (fun v1 h => ?_)
  refine fx_al (τ := 0) rfl dX23_all_4 h (fun v2 h => ?_)
  refine am_aloadr_n (x := some a0) dX23_all_5 rfl rfl ?_
  refine fx_gr (k := 2) (f_fldC (ref := "PondHouse$Kind") inf_X23 (by decide) q910 (Or.inl rfl) f_fld0) dX23_all_6 h (fun v3 h => ?_)
  refine am_ifnonnullr (tgt := 16) dX23_all_9 (by decide) (fun c => ?_) (fun c => ?_)
  · have h := h.1 c
    refine am_aloadr_n (x := some a0) dX23_all_16 rfl rfl ?_
    refine fx_gr (k := 2) (f_fldC (ref := "PondHouse$Kind") inf_X23 (by decide) q910 (Or.inl rfl) f_fld0) dX23_all_17 h (fun v4 h => ?_)
    refine fx_callV (Mc := m_X23_all) (as := []) (cs := [21]) (r := v4) (f_clsC inf_X23 q236 f_cls0) bm_X23_all q238 q235 (Nat.le_of_ble_eq_true rfl) dX23_all_20 h (fun b h => mt_X23_all (fx_k2i h (fun v5 σ6 h => ?_) (fun q σ' h => h.elim)))
    refine am_iadd dX23_all_23 ?_
    exact am_iret rfl dX23_all_24 h
  · have h := h.2 c
    refine am_iconst (v := 0) dX23_all_12 (by decide) ?_
    refine am_goto (tgt := 23) dX23_all_13 (by decide) ?_
    refine am_iadd dX23_all_23 ?_
    exact am_iret rfl dX23_all_24 h
theorem W_X23_owner_f {G : am_G} {d : Nat} {a0 : Nat} {a1 : Int32} {σ : am_S} {Q : Option Nat → am_S → Prop} (h : f_gr σ (some a0) [21] 2 (fun v1 => ((v1 = none → Q (some a0) σ) ∧ (¬ v1 = none → f_gr σ (some a0) [21] 2 (fun v2 => f_o σ v2 [21] (fun b => W_X23_all G d b σ (fun v3 σ4 => ((v3 ≤ a1 → Q (some a0) σ4) ∧ (¬ v3 ≤ a1 → f_gr σ4 (some a0) [21] 2 (fun v7 => f_o σ4 v7 [21] (fun b => W_X23_owner G d b a1 σ4 (fun v8 σ9 => Q v8 σ9)))))))))))) : W_X23_owner G (d + 1) a0 a1 σ Q := by
  unfold W_X23_owner
  refine am_aloadr_n (x := some a0) dX23_owner_0 rfl rfl ?_
  refine fx_gr (k := 2) (f_fldC (ref := "PondHouse$Kind") inf_X23 (by decide) q910 (Or.inl rfl) f_fld0) dX23_owner_1 h (fun v1 h => ?_)
  refine am_ifnullr (tgt := 29) dX23_owner_4 (by decide) (fun c => ?_) (fun c => ?_)
  · have h := h.1 c
    refine am_aloadr_n (x := some a0) dX23_owner_29 rfl rfl ?_
    exact fx_aret rfl rfl dX23_owner_30 h
  · have h := h.2 c
    refine am_iload_n (x := a1) dX23_owner_7 rfl rfl ?_
    refine am_aloadr_n (x := some a0) dX23_owner_8 rfl rfl ?_
    refine fx_gr (k := 2) (f_fldC (ref := "PondHouse$Kind") inf_X23 (by decide) q910 (Or.inl rfl) f_fld0) dX23_owner_9 h (fun v2 h => ?_)
    refine fx_callV (Mc := m_X23_all) (as := []) (cs := [21]) (r := v2) (f_clsC inf_X23 q236 f_cls0) bm_X23_all q238 q235 (Nat.le_of_ble_eq_true rfl) dX23_owner_12 h (fun b h => mt_X23_all (fx_k2i h (fun v3 σ4 h => ?_) (fun q σ' h => h.elim)))
    refine am_icmp_ge (tgt := 29) dX23_owner_15 (by decide) (fun c => ?_) (fun c => ?_)
    · have h := h.1 c
      refine am_aloadr_n (x := some a0) dX23_owner_29 rfl rfl ?_
      exact fx_aret rfl rfl dX23_owner_30 h
    · have h := h.2 c
      refine am_aloadr_n (x := some a0) dX23_owner_18 rfl rfl ?_
      refine fx_gr (k := 2) (f_fldC (ref := "PondHouse$Kind") inf_X23 (by decide) q910 (Or.inl rfl) f_fld0) dX23_owner_19 h (fun v7 h => ?_)
      refine am_iload_n (x := a1) dX23_owner_22 rfl rfl ?_
      refine fx_callV (Mc := m_X23_owner) (as := [.int a1]) (cs := [21]) (r := v7) (f_clsC inf_X23 q244 f_cls0) bm_X23_owner q246 q243 (Nat.le_of_ble_eq_true rfl) dX23_owner_23 h (fun b h => mt_X23_owner (fx_k2r h (fun v8 σ9 h => ?_) (fun q σ' h => h.elim)))
      refine am_goto (tgt := 30) dX23_owner_26 (by decide) ?_
      exact fx_aret rfl rfl dX23_owner_30 h
theorem W_X23_field_f {G : am_G} {d : Nat} {a0 : Nat} {a1 : Int32} {σ : am_S} {Q : Int32 → am_S → Prop} (h : f_o σ (some a0) [21] (fun b => W_X23_owner G d b a1 σ (fun v1 σ2 => f_gr σ2 v1 [21] 3 (fun v5 => f_o σ2 v1 [21] (fun b => W_X23_own G d b a1 σ2 (fun v6 σ7 => f_ai σ7 v5 0 v6 (fun v10 => Q v10 σ7))))))) : W_X23_field G (d + 1) a0 a1 σ Q := by
  unfold W_X23_field
  refine am_aloadr_n (x := some a0) dX23_field_0 rfl rfl ?_
  refine am_iload_n (x := a1) dX23_field_1 rfl rfl ?_
  refine fx_callV (Mc := m_X23_owner) (as := [.int a1]) (cs := [21]) (r := (some a0)) (f_clsC inf_X23 q244 f_cls0) bm_X23_owner q246 q243 (Nat.le_of_ble_eq_true rfl) dX23_field_2 h (fun b h => mt_X23_owner (fx_k2r h (fun v1 σ2 h => ?_) (fun q σ' h => h.elim)))
  refine am_astore_n (x := v1) (L' := [(4, va_rf v1), (0, va_rf (some a0)), (2, .int a1)]) dX23_field_5 rfl (Nat.le_of_ble_eq_true rfl) rfl ?_
  refine am_aloadr_n (x := v1) dX23_field_6 rfl rfl ?_
  refine fx_gr (k := 3) (f_fldC (ref := "PondHouse$Kind") inf_X23 (by decide) q914 (Or.inl rfl) f_fld0) dX23_field_7 h (fun v5 h => ?_)
  refine am_aloadr_n (x := v1) dX23_field_10 rfl rfl ?_
  refine am_iload_n (x := a1) dX23_field_11 rfl rfl ?_
  refine fx_callV (Mc := m_X23_own) (as := [.int a1]) (cs := [21]) (r := v1) (f_clsC inf_X23 qs3 f_cls0) bm_X23_own q251 q253 (Nat.le_of_ble_eq_true rfl) dX23_field_12 h (fun b h => mt_X23_own (fx_k2i h (fun v6 σ7 h => ?_) (fun q σ' h => h.elim)))
  refine fx_ai0 dX23_field_15 h (fun v10 h => ?_)
  exact am_iret rfl dX23_field_16 h
theorem W_X23_own_f {G : am_G} {d : Nat} {a0 : Nat} {a1 : Int32} {σ : am_S} {Q : Int32 → am_S → Prop} (h : f_gr σ (some a0) [21] 2 (fun v1 => ((¬ v1 = none → f_gr σ (some a0) [21] 2 (fun v2 => f_o σ v2 [21] (fun b => W_X23_all G d b σ (fun v3 σ4 => Q (a1 - v3) σ4)))) ∧ (v1 = none → Q (a1 - 0) σ)))) : W_X23_own G (d + 1) a0 a1 σ Q := by
  unfold W_X23_own
  refine am_iload_n (x := a1) dX23_own_0 rfl rfl ?_
  refine am_aloadr_n (x := some a0) dX23_own_1 rfl rfl ?_
  refine fx_gr (k := 2) (f_fldC (ref := "PondHouse$Kind") inf_X23 (by decide) q910 (Or.inl rfl) f_fld0) dX23_own_2 h (fun v1 h => ?_)
  refine am_ifnonnullr (tgt := 12) dX23_own_5 (by decide) (fun c => ?_) (fun c => ?_)
  · have h := h.1 c
    refine am_aloadr_n (x := some a0) dX23_own_12 rfl rfl ?_
    refine fx_gr (k := 2) (f_fldC (ref := "PondHouse$Kind") inf_X23 (by decide) q910 (Or.inl rfl) f_fld0) dX23_own_13 h (fun v2 h => ?_)
    refine fx_callV (Mc := m_X23_all) (as := []) (cs := [21]) (r := v2) (f_clsC inf_X23 q236 f_cls0) bm_X23_all q238 q235 (Nat.le_of_ble_eq_true rfl) dX23_own_16 h (fun b h => mt_X23_all (fx_k2i h (fun v3 σ4 h => ?_) (fun q σ' h => h.elim)))
    refine am_isub dX23_own_19 ?_
    exact am_iret rfl dX23_own_20 h
  · have h := h.2 c
    refine am_iconst (v := 0) dX23_own_8 (by decide) ?_
    refine am_goto (tgt := 19) dX23_own_9 (by decide) ?_
    refine am_isub dX23_own_19 ?_
    exact am_iret rfl dX23_own_20 h
theorem W_X23_place_f {G : am_G} {d : Nat} {a0 : Nat} {a1 : Int32} {σ : am_S} {Q : Int32 → am_S → Prop} (h : f_gr σ (some a0) [21] 2 (fun v1 => ((¬ v1 = none → f_gr σ (some a0) [21] 2 (fun v2 => f_o σ v2 [21] (fun b => W_X23_all G d b σ (fun v3 σ4 => B_X23_place_21 G (d + 1) a0 a1 v3 0 σ4 Q)))) ∧ (v1 = none → B_X23_place_21 G (d + 1) a0 a1 0 0 σ Q)))) : W_X23_place G (d + 1) a0 a1 σ Q := by
  unfold W_X23_place
  refine am_aloadr_n (x := some a0) dX23_place_0 rfl rfl ?_
  refine fx_gr (k := 2) (f_fldC (ref := "PondHouse$Kind") inf_X23 (by decide) q910 (Or.inl rfl) f_fld0) dX23_place_1 h (fun v1 h => ?_)
  refine am_ifnonnullr (tgt := 11) dX23_place_4 (by decide) (fun c => ?_) (fun c => ?_)
  · have h := h.1 c
    refine am_aloadr_n (x := some a0) dX23_place_11 rfl rfl ?_
    refine fx_gr (k := 2) (f_fldC (ref := "PondHouse$Kind") inf_X23 (by decide) q910 (Or.inl rfl) f_fld0) dX23_place_12 h (fun v2 h => ?_)
    refine fx_callV (Mc := m_X23_all) (as := []) (cs := [21]) (r := v2) (f_clsC inf_X23 q236 f_cls0) bm_X23_all q238 q235 (Nat.le_of_ble_eq_true rfl) dX23_place_15 h (fun b h => mt_X23_all (fx_k2i h (fun v3 σ4 h => ?_) (fun q σ' h => h.elim)))
    refine am_istore_n (L' := [(4, .int v3), (0, va_rf (some a0)), (2, .int a1)]) dX23_place_18 rfl (Nat.le_of_ble_eq_true rfl) rfl ?_
    refine am_iconst (v := 0) dX23_place_19 (by decide) ?_
    refine am_istore_n (L' := [(6, .int 0), (4, .int v3), (0, va_rf (some a0)), (2, .int a1)]) dX23_place_20 rfl (Nat.le_of_ble_eq_true rfl) rfl ?_
    exact am_lss h rfl
  · have h := h.2 c
    refine am_iconst (v := 0) dX23_place_7 (by decide) ?_
    refine am_goto (tgt := 18) dX23_place_8 (by decide) ?_
    refine am_istore_n (L' := [(4, .int 0), (0, va_rf (some a0)), (2, .int a1)]) dX23_place_18 rfl (Nat.le_of_ble_eq_true rfl) rfl ?_
    refine am_iconst (v := 0) dX23_place_19 (by decide) ?_
    refine am_istore_n (L' := [(6, .int 0), (4, .int 0), (0, va_rf (some a0)), (2, .int a1)]) dX23_place_20 rfl (Nat.le_of_ble_eq_true rfl) rfl ?_
    exact am_lss h rfl
theorem B_X23_place_21_f {G : am_G} {d : Nat} {a0 : Nat} {x1 : Int32} {x2 : Int32} {x3 : Int32} {σ : am_S} {Q : Int32 → am_S → Prop} (h : f_gr σ (some a0) [21] 3 (fun v1 => f_al σ v1 0 (fun v2 => ((v2 ≤ x3 → f_gr σ (some a0) [21] 2 (fun v3 => ((¬ v3 = none → f_gr σ (some a0) [21] 2 (fun v4 => f_o σ v4 [21] (fun b => W_X23_place G d b x1 σ (fun v5 σ6 => Q v5 σ6)))) ∧ (v3 = none → Q (-1) σ)))) ∧ (¬ v2 ≤ x3 → f_gr σ (some a0) [21] 3 (fun v9 => f_ai σ v9 0 x3 (fun v10 => ((¬ v10 = x1 → B_X23_place_21 G (d + 1) a0 x1 x2 (x3 + 1) σ Q) ∧ (v10 = x1 → Q (x2 + x3) σ))))))))) : B_X23_place_21 G (d + 1) a0 x1 x2 x3 σ Q := by
  unfold B_X23_place_21
  refine am_iload_n (x := x3) dX23_place_21 rfl rfl ?_
  refine am_aloadr_n (x := some a0) dX23_place_22 rfl rfl ?_
  refine fx_gr (k := 3) (f_fldC (ref := "PondHouse$Kind") inf_X23 (by decide) q914 (Or.inl rfl) f_fld0) dX23_place_23 h (fun v1 h => ?_)
  refine fx_al (τ := 0) rfl dX23_place_26 h (fun v2 h => ?_)
  refine am_icmp_ge (tgt := 50) dX23_place_27 (by decide) (fun c => ?_) (fun c => ?_)
  · have h := h.1 c
    refine am_aloadr_n (x := some a0) dX23_place_50 rfl rfl ?_
    refine fx_gr (k := 2) (f_fldC (ref := "PondHouse$Kind") inf_X23 (by decide) q910 (Or.inl rfl) f_fld0) dX23_place_51 h (fun v3 h => ?_)
    refine am_ifnonnullr (tgt := 61) dX23_place_54 (by decide) (fun c => ?_) (fun c => ?_)
    · have h := h.1 c
      refine am_aloadr_n (x := some a0) dX23_place_61 rfl rfl ?_
      refine fx_gr (k := 2) (f_fldC (ref := "PondHouse$Kind") inf_X23 (by decide) q910 (Or.inl rfl) f_fld0) dX23_place_62 h (fun v4 h => ?_)
      refine am_iload_n (x := x1) dX23_place_65 rfl rfl ?_
      refine fx_callV (Mc := m_X23_place) (as := [.int x1]) (cs := [21]) (r := v4) (f_clsC inf_X23 q258 f_cls0) bm_X23_place q260 q257 (Nat.le_of_ble_eq_true rfl) dX23_place_66 h (fun b h => mt_X23_place (fx_k2i h (fun v5 σ6 h => ?_) (fun q σ' h => h.elim)))
      exact am_iret rfl dX23_place_69 h
    · have h := h.2 c
      refine am_iconst (v := (-1)) dX23_place_57 (by decide) ?_
      refine am_goto (tgt := 69) dX23_place_58 (by decide) ?_
      exact am_iret rfl dX23_place_69 h
  · have h := h.2 c
    refine am_aloadr_n (x := some a0) dX23_place_30 rfl rfl ?_
    refine fx_gr (k := 3) (f_fldC (ref := "PondHouse$Kind") inf_X23 (by decide) q914 (Or.inl rfl) f_fld0) dX23_place_31 h (fun v9 h => ?_)
    refine am_iload_n (x := x3) dX23_place_34 rfl rfl ?_
    refine fx_ai0 dX23_place_35 h (fun v10 h => ?_)
    refine am_iload_n (x := x1) dX23_place_36 rfl rfl ?_
    refine am_icmp_ne (tgt := 44) dX23_place_37 (by decide) (fun c => ?_) (fun c => ?_)
    · have h := h.1 c
      refine am_iinc (x := x3) (v := (x3 + 1)) (L' := [(6, .int (x3 + 1)), (0, va_rf (some a0)), (2, .int x1), (4, .int x2)]) dX23_place_44 rfl rfl (Nat.le_of_ble_eq_true rfl) rfl ?_
      refine am_goto (tgt := 21) dX23_place_47 (by decide) ?_
      exact am_lss h rfl
    · have h := h.2 c
      refine am_iload_n (x := x2) dX23_place_40 rfl rfl ?_
      refine am_iload_n (x := x3) dX23_place_41 rfl rfl ?_
      refine am_iadd dX23_place_42 ?_
      exact am_iret rfl dX23_place_43 h
theorem W_X23_former_f {G : am_G} {d : Nat} {a0 : Nat} {a1 : Int32} {σ : am_S} {Q : Int32 → am_S → Prop} (h : f_o σ (some a0) [21] (fun b => W_X23_owner G d b a1 σ (fun v1 σ2 => f_gr σ2 v1 [21] 7 (fun v5 => f_o σ2 v1 [21] (fun b => W_X23_own G d b a1 σ2 (fun v6 σ7 => f_ai σ7 v5 0 v6 (fun v10 => Q v10 σ7))))))) : W_X23_former G (d + 1) a0 a1 σ Q := by
  unfold W_X23_former
  refine am_aloadr_n (x := some a0) dX23_former_0 rfl rfl ?_
  refine am_iload_n (x := a1) dX23_former_1 rfl rfl ?_
  refine fx_callV (Mc := m_X23_owner) (as := [.int a1]) (cs := [21]) (r := (some a0)) (f_clsC inf_X23 q244 f_cls0) bm_X23_owner q246 q243 (Nat.le_of_ble_eq_true rfl) dX23_former_2 h (fun b h => mt_X23_owner (fx_k2r h (fun v1 σ2 h => ?_) (fun q σ' h => h.elim)))
  refine am_astore_n (x := v1) (L' := [(4, va_rf v1), (0, va_rf (some a0)), (2, .int a1)]) dX23_former_5 rfl (Nat.le_of_ble_eq_true rfl) rfl ?_
  refine am_aloadr_n (x := v1) dX23_former_6 rfl rfl ?_
  refine fx_gr (k := 7) (f_fldC (ref := "PondHouse$Kind") inf_X23 (by decide) q925 (Or.inl rfl) f_fld0) dX23_former_7 h (fun v5 h => ?_)
  refine am_aloadr_n (x := v1) dX23_former_10 rfl rfl ?_
  refine am_iload_n (x := a1) dX23_former_11 rfl rfl ?_
  refine fx_callV (Mc := m_X23_own) (as := [.int a1]) (cs := [21]) (r := v1) (f_clsC inf_X23 qs3 f_cls0) bm_X23_own q251 q253 (Nat.le_of_ble_eq_true rfl) dX23_former_12 h (fun b h => mt_X23_own (fx_k2i h (fun v6 σ7 h => ?_) (fun q σ' h => h.elim)))
  refine fx_ai0 dX23_former_15 h (fun v10 h => ?_)
  exact am_iret rfl dX23_former_16 h
theorem W_X23_holds_f {G : am_G} {d : Nat} {a0 : Nat} {a1 : Int32} {σ : am_S} {Q : Int32 → am_S → Prop} (h : B_X23_holds_2 G d a0 a1 0 σ Q) : W_X23_holds G d a0 a1 σ Q := by
  unfold W_X23_holds
  refine am_iconst (v := 0) dX23_holds_0 (by decide) ?_
  refine am_istore_n (L' := [(4, .int 0), (0, va_rf (some a0)), (2, .int a1)]) dX23_holds_1 rfl (Nat.le_of_ble_eq_true rfl) rfl ?_
  exact am_lss h rfl
theorem B_X23_holds_2_f {G : am_G} {d : Nat} {a0 : Nat} {x1 : Int32} {x2 : Int32} {σ : am_S} {Q : Int32 → am_S → Prop} (h : f_gr σ (some a0) [21] 3 (fun v1 => f_al σ v1 0 (fun v2 => ((v2 ≤ x2 → Q 0 σ) ∧ (¬ v2 ≤ x2 → f_gr σ (some a0) [21] 3 (fun v3 => f_ai σ v3 0 x2 (fun v4 => ((¬ v4 = x1 → B_X23_holds_2 G d a0 x1 (x2 + 1) σ Q) ∧ (v4 = x1 → f_gr σ (some a0) [21] 7 (fun v5 => f_ai σ v5 0 x2 (fun v6 => ((¬ v6 = x1 → Q 0 σ) ∧ (v6 = x1 → Q 1 σ))))))))))))) : B_X23_holds_2 G d a0 x1 x2 σ Q := by
  unfold B_X23_holds_2
  refine am_iload_n (x := x2) dX23_holds_2 rfl rfl ?_
  refine am_aloadr_n (x := some a0) dX23_holds_3 rfl rfl ?_
  refine fx_gr (k := 3) (f_fldC (ref := "PondHouse$Kind") inf_X23 (by decide) q914 (Or.inl rfl) f_fld0) dX23_holds_4 h (fun v1 h => ?_)
  refine fx_al (τ := 0) rfl dX23_holds_7 h (fun v2 h => ?_)
  refine am_icmp_ge (tgt := 43) dX23_holds_8 (by decide) (fun c => ?_) (fun c => ?_)
  · have h := h.1 c
    refine am_iconst (v := 0) dX23_holds_43 (by decide) ?_
    exact am_zret rfl rfl dX23_holds_44 h
  · have h := h.2 c
    refine am_aloadr_n (x := some a0) dX23_holds_11 rfl rfl ?_
    refine fx_gr (k := 3) (f_fldC (ref := "PondHouse$Kind") inf_X23 (by decide) q914 (Or.inl rfl) f_fld0) dX23_holds_12 h (fun v3 h => ?_)
    refine am_iload_n (x := x2) dX23_holds_15 rfl rfl ?_
    refine fx_ai0 dX23_holds_16 h (fun v4 h => ?_)
    refine am_iload_n (x := x1) dX23_holds_17 rfl rfl ?_
    refine am_icmp_ne (tgt := 37) dX23_holds_18 (by decide) (fun c => ?_) (fun c => ?_)
    · have h := h.1 c
      refine am_iinc (x := x2) (v := (x2 + 1)) (L' := [(4, .int (x2 + 1)), (0, va_rf (some a0)), (2, .int x1)]) dX23_holds_37 rfl rfl (Nat.le_of_ble_eq_true rfl) rfl ?_
      refine am_goto (tgt := 2) dX23_holds_40 (by decide) ?_
      exact am_lss h rfl
    · have h := h.2 c
      refine am_aloadr_n (x := some a0) dX23_holds_21 rfl rfl ?_
      refine fx_gr (k := 7) (f_fldC (ref := "PondHouse$Kind") inf_X23 (by decide) q925 (Or.inl rfl) f_fld0) dX23_holds_22 h (fun v5 h => ?_)
      refine am_iload_n (x := x2) dX23_holds_25 rfl rfl ?_
      refine fx_ai0 dX23_holds_26 h (fun v6 h => ?_)
      refine am_iload_n (x := x1) dX23_holds_27 rfl rfl ?_
      refine am_icmp_ne (tgt := 35) dX23_holds_28 (by decide) (fun c => ?_) (fun c => ?_)
      · have h := h.1 c
        refine am_iconst (v := 0) dX23_holds_35 (by decide) ?_
        exact am_zret rfl rfl dX23_holds_36 h
      · have h := h.2 c
        refine am_iconst (v := 1) dX23_holds_31 (by decide) ?_
        refine am_goto (tgt := 36) dX23_holds_32 (by decide) ?_
        exact am_zret rfl rfl dX23_holds_36 h
theorem W_X23_first_f {G : am_G} {d : Nat} {a0 : Nat} {a1 : Int32} {σ : am_S} {Q : Int32 → am_S → Prop} (h : f_o σ (some a0) [21] (fun b => W_X23_owner G d b a1 σ (fun v1 σ2 => f_gr σ2 v1 [21] 4 (fun v5 => f_o σ2 v1 [21] (fun b => W_X23_own G d b a1 σ2 (fun v6 σ7 => f_ai σ7 v5 0 v6 (fun v10 => Q v10 σ7))))))) : W_X23_first G (d + 1) a0 a1 σ Q := by
  unfold W_X23_first
  refine am_aloadr_n (x := some a0) dX23_first_0 rfl rfl ?_
  refine am_iload_n (x := a1) dX23_first_1 rfl rfl ?_
  refine fx_callV (Mc := m_X23_owner) (as := [.int a1]) (cs := [21]) (r := (some a0)) (f_clsC inf_X23 q244 f_cls0) bm_X23_owner q246 q243 (Nat.le_of_ble_eq_true rfl) dX23_first_2 h (fun b h => mt_X23_owner (fx_k2r h (fun v1 σ2 h => ?_) (fun q σ' h => h.elim)))
  refine am_astore_n (x := v1) (L' := [(4, va_rf v1), (0, va_rf (some a0)), (2, .int a1)]) dX23_first_5 rfl (Nat.le_of_ble_eq_true rfl) rfl ?_
  refine am_aloadr_n (x := v1) dX23_first_6 rfl rfl ?_
  refine fx_gr (k := 4) (f_fldC (ref := "PondHouse$Kind") inf_X23 (by decide) q917 (Or.inl rfl) f_fld0) dX23_first_7 h (fun v5 h => ?_)
  refine am_aloadr_n (x := v1) dX23_first_10 rfl rfl ?_
  refine am_iload_n (x := a1) dX23_first_11 rfl rfl ?_
  refine fx_callV (Mc := m_X23_own) (as := [.int a1]) (cs := [21]) (r := v1) (f_clsC inf_X23 qs3 f_cls0) bm_X23_own q251 q253 (Nat.le_of_ble_eq_true rfl) dX23_first_12 h (fun b h => mt_X23_own (fx_k2i h (fun v6 σ7 h => ?_) (fun q σ' h => h.elim)))
  refine fx_ai0 dX23_first_15 h (fun v10 h => ?_)
  exact am_iret rfl dX23_first_16 h
theorem W_X23_body_f {G : am_G} {d : Nat} {a0 : Nat} {a1 : Int32} {σ : am_S} {Q : Option Nat → am_S → Prop} (h : f_gr σ (some a0) [21] 8 (fun v1 => f_al σ v1 8 (fun v2 => B_X23_body_11 G (d + 1) a0 a1 v1 v2 0 σ Q))) : W_X23_body G (d + 1) a0 a1 σ Q := by
  unfold W_X23_body
  refine am_aloadr_n (x := some a0) dX23_body_0 rfl rfl ?_
  refine fx_gr (k := 8) (f_fldC (ref := "PondHouse$Kind") inf_X23 (by decide) q926 (Or.inl rfl) f_fld0) dX23_body_1 h (fun v1 h => ?_)
  refine am_astore_n (x := v1) (L' := [(4, va_rf v1), (0, va_rf (some a0)), (2, .int a1)]) dX23_body_4 rfl (Nat.le_of_ble_eq_true rfl) rfl ?_
  refine am_aloadr_n (x := v1) dX23_body_5 rfl rfl ?_
  refine fx_al (τ := 8) rfl dX23_body_6 h (fun v2 h => ?_)
  refine am_istore_n (L' := [(6, .int v2), (4, va_rf v1), (0, va_rf (some a0)), (2, .int a1)]) dX23_body_7 rfl (Nat.le_of_ble_eq_true rfl) rfl ?_
  refine am_iconst (v := 0) dX23_body_8 (by decide) ?_
  refine am_istore (L' := [(8, .int 0), (6, .int v2), (4, va_rf v1), (0, va_rf (some a0)), (2, .int a1)]) dX23_body_9 (Nat.le_of_ble_eq_true rfl) rfl ?_
  exact am_lss h rfl
theorem B_X23_body_11_f {G : am_G} {d : Nat} {a0 : Nat} {x1 : Int32} {x2 : Option Nat} {x3 : Int32} {x4 : Int32} {σ : am_S} {Q : Option Nat → am_S → Prop} (h : ((x3 ≤ x4 → f_gr σ (some a0) [21] 2 (fun v1 => ((¬ v1 = none → f_gr σ (some a0) [21] 2 (fun v2 => f_o σ v2 [21] (fun b => W_X23_body G d b x1 σ (fun v3 σ4 => Q v3 σ4)))) ∧ (v1 = none → Q none σ)))) ∧ (¬ x3 ≤ x4 → f_ar σ x2 8 x4 (fun v7 => f_gi σ v7 [22] 1 (fun v8 => ((¬ v8 = x1 → B_X23_body_11 G (d + 1) a0 x1 x2 x3 (x4 + 1) σ Q) ∧ (v8 = x1 → Q v7 σ))))))) : B_X23_body_11 G (d + 1) a0 x1 x2 x3 x4 σ Q := by
  unfold B_X23_body_11
  refine am_iload (x := x4) dX23_body_11 rfl ?_
  refine am_iload_n (x := x3) dX23_body_13 rfl rfl ?_
  refine am_icmp_ge (tgt := 41) dX23_body_14 (by decide) (fun c => ?_) (fun c => ?_)
  · have h := h.1 c
    refine am_aloadr_n (x := some a0) dX23_body_41 rfl rfl ?_
    refine fx_gr (k := 2) (f_fldC (ref := "PondHouse$Kind") inf_X23 (by decide) q910 (Or.inl rfl) f_fld0) dX23_body_42 h (fun v1 h => ?_)
    refine am_ifnonnullr (tgt := 52) dX23_body_45 (by decide) (fun c => ?_) (fun c => ?_)
    · have h := h.1 c
      refine am_aloadr_n (x := some a0) dX23_body_52 rfl rfl ?_
      refine fx_gr (k := 2) (f_fldC (ref := "PondHouse$Kind") inf_X23 (by decide) q910 (Or.inl rfl) f_fld0) dX23_body_53 h (fun v2 h => ?_)
      refine am_iload_n (x := x1) dX23_body_56 rfl rfl ?_
      refine fx_callV (Mc := m_X23_body) (as := [.int x1]) (cs := [21]) (r := v2) (f_clsC inf_X23 q293 f_cls0) bm_X23_body q295 q292 (Nat.le_of_ble_eq_true rfl) dX23_body_57 h (fun b h => mt_X23_body (fx_k2r h (fun v3 σ4 h => ?_) (fun q σ' h => h.elim)))
      exact fx_aret rfl rfl dX23_body_60 h
    · have h := h.2 c
      refine am_null dX23_body_48 ?_
      refine am_goto (tgt := 60) dX23_body_49 (by decide) ?_
      exact fx_aret rfl rfl dX23_body_60 h
  · have h := h.2 c
    refine am_aloadr_n (x := x2) dX23_body_17 rfl rfl ?_
    refine am_iload (x := x4) dX23_body_18 rfl ?_
    refine fx_ar (τ := 8) rfl rfl dX23_body_20 h (fun v7 h => ?_)
    refine am_astore (x := v7) (L' := [(10, va_rf v7), (0, va_rf (some a0)), (2, .int x1), (4, va_rf x2), (6, .int x3), (8, .int x4)]) dX23_body_21 (Nat.le_of_ble_eq_true rfl) rfl ?_
    refine am_aloadr (x := v7) dX23_body_23 rfl ?_
    refine fx_gi (k := 1) (f_fldC (ref := "PondHouse$Body") inf_X24 (by decide) q891 (Or.inl rfl) f_fld0) dX23_body_25 h (fun v8 h => ?_)
    refine am_iload_n (x := x1) dX23_body_28 rfl rfl ?_
    refine am_icmp_ne (tgt := 35) dX23_body_29 (by decide) (fun c => ?_) (fun c => ?_)
    · have h := h.1 c
      refine am_iinc (x := x4) (v := (x4 + 1)) (L' := [(8, .int (x4 + 1)), (10, va_rf v7), (0, va_rf (some a0)), (2, .int x1), (4, va_rf x2), (6, .int x3)]) dX23_body_35 rfl rfl (Nat.le_of_ble_eq_true rfl) rfl ?_
      refine am_goto (tgt := 11) dX23_body_38 (by decide) ?_
      exact am_lss h rfl
    · have h := h.2 c
      refine am_aloadr (x := v7) dX23_body_32 rfl ?_
      exact fx_aret rfl rfl dX23_body_34 h
theorem W_X23_init_f {G : am_G} {d : Nat} {a0 : Nat} {a1 : Option Nat} {a2 : Option Nat} {a3 : Int32} {σ : am_S} {Q : am_S → Prop} (h : f_gi σ a1 [8] 0 (fun v1 => f_p σ (some a0) [21] 0 (.int v1) (fun σ2 => f_p σ2 (some a0) [21] 2 (va_rf a2) (fun σ3 => f_p σ3 (some a0) [21] 1 (.int a3) (fun σ4 => f_gr σ4 a1 [8] 3 (fun v5 => f_gi σ4 a1 [8] 10 (fun v6 => W_J8_copyOf_3 G d v5 v6 σ4 (fun v7 σ8 => f_p σ8 (some a0) [21] 3 (va_rf v7) (fun σ11 => f_gr σ11 a1 [8] 4 (fun v12 => f_gi σ11 a1 [8] 10 (fun v13 => W_J8_copyOf_3 G d v12 v13 σ11 (fun v14 σ15 => f_p σ15 (some a0) [21] 4 (va_rf v14) (fun σ18 => f_gr σ18 a1 [8] 5 (fun v19 => f_gi σ18 a1 [8] 10 (fun v20 => W_J8_copyOf_3 G d v19 v20 σ18 (fun v21 σ22 => f_p σ22 (some a0) [21] 7 (va_rf v21) (fun σ25 => f_gr σ25 a1 [8] 6 (fun v26 => f_gi σ25 a1 [8] 11 (fun v27 => W_J8_copyOf_3 G d v26 v27 σ25 (fun v28 σ29 => f_p σ29 (some a0) [21] 5 (va_rf v28) (fun σ32 => f_gr σ32 a1 [8] 7 (fun v33 => f_gi σ32 a1 [8] 11 (fun v34 => W_J8_copyOf_3 G d v33 v34 σ32 (fun v35 σ36 => f_p σ36 (some a0) [21] 6 (va_rf v35) (fun σ39 => f_gi σ39 a1 [8] 12 (fun v40 => f_na G σ39 8 f_a0r v40 (fun n41 σ42 => f_p σ42 (some a0) [21] 8 (va_rf (some n41)) (fun σ43 => B_X23_init_111 G (d + 1) a0 a1 0 σ43 Q)))))))))))))))))))))))))))) : W_X23_init G (d + 1) a0 a1 a2 a3 σ Q := by
  unfold W_X23_init
  refine am_aloadr_n (x := some a0) dX23_init_0 rfl rfl ?_
  refine am_objInit q869 q304 q305 (Nat.le_of_ble_eq_true rfl) dX23_init_1 ?_
  refine am_aloadr_n (x := some a0) dX23_init_4 rfl rfl ?_
  refine am_aloadr_n (x := a1) dX23_init_5 rfl rfl ?_
  refine fx_gi (k := 0) (f_fldC (ref := "PondHouse$Draft") inf_X8 (by decide) q561 (Or.inl rfl) f_fld0) dX23_init_6 h (fun v1 h => ?_)
  refine fx_p (k := 0) (v := .int v1) (f_putC inf_X23 (by decide) rfl rfl q905 (Or.inr ⟨rfl, rfl, rfl⟩) f_put0) dX23_init_9 h (fun σ2 h => ?_)
  refine am_aloadr_n (x := some a0) dX23_init_12 rfl rfl ?_
  refine am_aloadr_n (x := a2) dX23_init_13 rfl rfl ?_
  refine fx_p (k := 2) (v := va_rf a2) (f_putC inf_X23 (by decide) (f_nrf _ _) (f_frf _ _) q910 (Or.inr ⟨rfl, rfl, rfl⟩) f_put0) dX23_init_14 h (fun σ3 h => ?_)
  refine am_aloadr_n (x := some a0) dX23_init_17 rfl rfl ?_
  refine am_iload_n (x := a3) dX23_init_18 rfl rfl ?_
  refine fx_p (k := 1) (v := .int a3) (f_putC inf_X23 (by decide) rfl rfl q908 (Or.inr ⟨rfl, rfl, rfl⟩) f_put0) dX23_init_19 h (fun σ4 h => ?_)
  refine am_aloadr_n (x := some a0) dX23_init_22 rfl rfl ?_
  refine am_aloadr_n (x := a1) dX23_init_23 rfl rfl ?_
  refine fx_gr (k := 3) (f_fldC (ref := "PondHouse$Draft") inf_X8 (by decide) q574 (Or.inl rfl) f_fld0) dX23_init_24 h (fun v5 h => ?_)
  refine am_aloadr_n (x := a1) dX23_init_27 rfl rfl ?_
  refine fx_gi (k := 10) (f_fldC (ref := "PondHouse$Draft") inf_X8 (by decide) q588 (Or.inl rfl) f_fld0) dX23_init_28 h (fun v6 h => ?_)
  refine fx_callS (Mc := m_J8_copyOf_3) (as := [va_rf v5, .int v6]) bm_J8_copyOf_3 q870 q871 (Nat.le_of_ble_eq_true rfl) dX23_init_31 (mt_J8_copyOf_3 (fx_k2r h (fun v7 σ8 h => ?_) (fun q σ' h => h.elim)))
  refine fx_p (k := 3) (v := va_rf v7) (f_putC inf_X23 (by decide) (f_nra _ _) (f_fra _ _) q914 (Or.inr ⟨rfl, rfl, rfl⟩) f_put0) dX23_init_34 h (fun σ11 h => ?_)
  refine am_aloadr_n (x := some a0) dX23_init_37 rfl rfl ?_
  refine am_aloadr_n (x := a1) dX23_init_38 rfl rfl ?_
  refine fx_gr (k := 4) (f_fldC (ref := "PondHouse$Draft") inf_X8 (by decide) q577 (Or.inl rfl) f_fld0) dX23_init_39 h (fun v12 h => ?_)
  refine am_aloadr_n (x := a1) dX23_init_42 rfl rfl ?_
  refine fx_gi (k := 10) (f_fldC (ref := "PondHouse$Draft") inf_X8 (by decide) q588 (Or.inl rfl) f_fld0) dX23_init_43 h (fun v13 h => ?_)
  refine fx_callS (Mc := m_J8_copyOf_3) (as := [va_rf v12, .int v13]) bm_J8_copyOf_3 q870 q871 (Nat.le_of_ble_eq_true rfl) dX23_init_46 (mt_J8_copyOf_3 (fx_k2r h (fun v14 σ15 h => ?_) (fun q σ' h => h.elim)))
  refine fx_p (k := 4) (v := va_rf v14) (f_putC inf_X23 (by decide) (f_nra _ _) (f_fra _ _) q917 (Or.inr ⟨rfl, rfl, rfl⟩) f_put0) dX23_init_49 h (fun σ18 h => ?_)
  refine am_aloadr_n (x := some a0) dX23_init_52 rfl rfl ?_
  refine am_aloadr_n (x := a1) dX23_init_53 rfl rfl ?_
  refine fx_gr (k := 5) (f_fldC (ref := "PondHouse$Draft") inf_X8 (by decide) q579 (Or.inl rfl) f_fld0) dX23_init_54 h (fun v19 h => ?_)
  refine am_aloadr_n (x := a1) dX23_init_57 rfl rfl ?_
  refine fx_gi (k := 10) (f_fldC (ref := "PondHouse$Draft") inf_X8 (by decide) q588 (Or.inl rfl) f_fld0) dX23_init_58 h (fun v20 h => ?_)
  refine fx_callS (Mc := m_J8_copyOf_3) (as := [va_rf v19, .int v20]) bm_J8_copyOf_3 q870 q871 (Nat.le_of_ble_eq_true rfl) dX23_init_61 (mt_J8_copyOf_3 (fx_k2r h (fun v21 σ22 h => ?_) (fun q σ' h => h.elim)))
  refine fx_p (k := 7) (v := va_rf v21) (f_putC inf_X23 (by decide) (f_nra _ _) (f_fra _ _) q925 (Or.inr ⟨rfl, rfl, rfl⟩) f_put0) dX23_init_64 h (fun σ25 h => ?_)
  refine am_aloadr_n (x := some a0) dX23_init_67 rfl rfl ?_
  refine am_aloadr_n (x := a1) dX23_init_68 rfl rfl ?_
  refine fx_gr (k := 6) (f_fldC (ref := "PondHouse$Draft") inf_X8 (by decide) q581 (Or.inl rfl) f_fld0) dX23_init_69 h (fun v26 h => ?_)
  refine am_aloadr_n (x := a1) dX23_init_72 rfl rfl ?_
  refine fx_gi (k := 11) (f_fldC (ref := "PondHouse$Draft") inf_X8 (by decide) q590 (Or.inl rfl) f_fld0) dX23_init_73 h (fun v27 h => ?_)
  refine fx_callS (Mc := m_J8_copyOf_3) (as := [va_rf v26, .int v27]) bm_J8_copyOf_3 q870 q871 (Nat.le_of_ble_eq_true rfl) dX23_init_76 (mt_J8_copyOf_3 (fx_k2r h (fun v28 σ29 h => ?_) (fun q σ' h => h.elim)))
  refine fx_p (k := 5) (v := va_rf v28) (f_putC inf_X23 (by decide) (f_nra _ _) (f_fra _ _) q919 (Or.inr ⟨rfl, rfl, rfl⟩) f_put0) dX23_init_79 h (fun σ32 h => ?_)
  refine am_aloadr_n (x := some a0) dX23_init_82 rfl rfl ?_
  refine am_aloadr_n (x := a1) dX23_init_83 rfl rfl ?_
  refine fx_gr (k := 7) (f_fldC (ref := "PondHouse$Draft") inf_X8 (by decide) q583 (Or.inl rfl) f_fld0) dX23_init_84 h (fun v33 h => ?_)
  refine am_aloadr_n (x := a1) dX23_init_87 rfl rfl ?_
  refine fx_gi (k := 11) (f_fldC (ref := "PondHouse$Draft") inf_X8 (by decide) q590 (Or.inl rfl) f_fld0) dX23_init_88 h (fun v34 h => ?_)
  refine fx_callS (Mc := m_J8_copyOf_3) (as := [va_rf v33, .int v34]) bm_J8_copyOf_3 q870 q871 (Nat.le_of_ble_eq_true rfl) dX23_init_91 (mt_J8_copyOf_3 (fx_k2r h (fun v35 σ36 h => ?_) (fun q σ' h => h.elim)))
  refine fx_p (k := 6) (v := va_rf v35) (f_putC inf_X23 (by decide) (f_nra _ _) (f_fra _ _) q922 (Or.inr ⟨rfl, rfl, rfl⟩) f_put0) dX23_init_94 h (fun σ39 h => ?_)
  refine am_aloadr_n (x := some a0) dX23_init_97 rfl rfl ?_
  refine am_aloadr_n (x := a1) dX23_init_98 rfl rfl ?_
  refine fx_gi (k := 12) (f_fldC (ref := "PondHouse$Draft") inf_X8 (by decide) q592 (Or.inl rfl) f_fld0) dX23_init_99 h (fun v40 h => ?_)
  refine fx_nar (τ := 8) q880 q881 rfl dX23_init_102 h (fun n41 σ42 h => ?_)
  refine fx_p (k := 8) (v := va_rf (some n41)) (f_putC inf_X23 (by decide) (f_nra _ _) (f_fra _ _) q926 (Or.inr ⟨rfl, rfl, rfl⟩) f_put0) dX23_init_105 h (fun σ43 h => ?_)
  refine am_iconst (v := 0) dX23_init_108 (by decide) ?_
  refine am_istore (L' := [(8, .int 0), (0, va_rf (some a0)), (2, va_rf a1), (4, va_rf a2), (6, .int a3)]) dX23_init_109 (Nat.le_of_ble_eq_true rfl) rfl ?_
  exact am_lss h rfl
theorem B_X23_init_111_f {G : am_G} {d : Nat} {a0 : Nat} {x1 : Option Nat} {x4 : Int32} {σ : am_S} {Q : am_S → Prop} (h : f_gi σ x1 [8] 12 (fun v1 => ((v1 ≤ x4 → Q σ) ∧ (¬ v1 ≤ x4 → f_gr σ (some a0) [21] 8 (fun v2 => f_new G σ 22 3 tyX24 (fun n3 σ4 => f_gr σ4 x1 [8] 8 (fun v5 => f_ai σ4 v5 0 x4 (fun v6 => f_gr σ4 x1 [8] 9 (fun v7 => f_ar σ4 v7 10 x4 (fun v8 => W_X24_init G d n3 (some a0) v6 v8 σ4 (fun σ10 => f_sr σ10 v2 8 [22] x4 (some n3) (fun σ13 => B_X23_init_111 G (d + 1) a0 x1 (x4 + 1) σ13 Q)))))))))))) : B_X23_init_111 G (d + 1) a0 x1 x4 σ Q := by
  unfold B_X23_init_111
  refine am_iload (x := x4) dX23_init_111 rfl ?_
  refine am_aloadr_n (x := x1) dX23_init_113 rfl rfl ?_
  refine fx_gi (k := 12) (f_fldC (ref := "PondHouse$Draft") inf_X8 (by decide) q592 (Or.inl rfl) f_fld0) dX23_init_114 h (fun v1 h => ?_)
  refine am_icmp_ge (tgt := 155) dX23_init_117 (by decide) (fun c => ?_) (fun c => ?_)
  · have h := h.1 c
    exact am_vret rfl dX23_init_155 h
  · have h := h.2 c
    refine am_aloadr_n (x := some a0) dX23_init_120 rfl rfl ?_
    refine fx_gr (k := 8) (f_fldC (ref := "PondHouse$Kind") inf_X23 (by decide) q926 (Or.inl rfl) f_fld0) dX23_init_121 h (fun v2 h => ?_)
    refine am_iload (x := x4) dX23_init_124 rfl ?_
    refine fx_new inf_X24 q880 q882 q202 dX23_init_126 h (fun n3 σ4 h => ?_)
    refine am_dup dX23_init_129 (am_rf_cat _) ?_
    refine am_aloadr_n (x := some a0) dX23_init_130 rfl rfl ?_
    refine am_aloadr_n (x := x1) dX23_init_131 rfl rfl ?_
    refine fx_gr (k := 8) (f_fldC (ref := "PondHouse$Draft") inf_X8 (by decide) q585 (Or.inl rfl) f_fld0) dX23_init_132 h (fun v5 h => ?_)
    refine am_iload (x := x4) dX23_init_135 rfl ?_
    refine fx_ai0 dX23_init_137 h (fun v6 h => ?_)
    refine am_aloadr_n (x := x1) dX23_init_138 rfl rfl ?_
    refine fx_gr (k := 9) (f_fldC (ref := "PondHouse$Draft") inf_X8 (by decide) q587 (Or.inl rfl) f_fld0) dX23_init_139 h (fun v7 h => ?_)
    refine am_iload (x := x4) dX23_init_142 rfl ?_
    refine fx_ar (τ := 10) rfl rfl dX23_init_144 h (fun v8 h => ?_)
    refine fx_callI (Mc := m_X24_init) (as := [va_rf (some a0), .int v6, va_rf v8]) bm_X24_init q883 q884 rfl rfl (Nat.le_of_ble_eq_true rfl) dX23_init_145 (mt_X24_init (fx_k2v h (fun σ10 h => ?_) (fun q σ' h => h.elim)))
    refine fx_sr (τ := 8) (E := "PondHouse$Body") (cs := [22]) (v := (some n3)) rfl (f_clsC inf_X24 (Or.inl rfl) f_cls0) dX23_init_148 h (fun σ13 h => ?_)
    refine am_iinc (x := x4) (v := (x4 + 1)) (L' := [(8, .int (x4 + 1)), (0, va_rf (some a0)), (2, va_rf x1)]) dX23_init_149 rfl rfl (Nat.le_of_ble_eq_true rfl) rfl ?_
    refine am_goto (tgt := 111) dX23_init_152 (by decide) ?_
    exact am_lss h rfl
theorem W_X23_hasOwn_f {G : am_G} {d : Nat} {a0 : Nat} {a1 : Int32} {σ : am_S} {Q : Int32 → am_S → Prop} (h : f_gr σ (some a0) [21] 3 (fun v1 => f_al σ v1 0 (fun v2 => B_X23_hasOwn_11 G d a0 a1 v1 v2 0 σ Q))) : W_X23_hasOwn G d a0 a1 σ Q := by
  unfold W_X23_hasOwn
  refine am_aloadr_n (x := some a0) dX23_hasOwn_0 rfl rfl ?_
  refine fx_gr (k := 3) (f_fldC (ref := "PondHouse$Kind") inf_X23 (by decide) q914 (Or.inl rfl) f_fld0) dX23_hasOwn_1 h (fun v1 h => ?_)
  refine am_astore_n (x := v1) (L' := [(4, va_rf v1), (0, va_rf (some a0)), (2, .int a1)]) dX23_hasOwn_4 rfl (Nat.le_of_ble_eq_true rfl) rfl ?_
  refine am_aloadr_n (x := v1) dX23_hasOwn_5 rfl rfl ?_
  refine fx_al (τ := 0) rfl dX23_hasOwn_6 h (fun v2 h => ?_)
  refine am_istore_n (L' := [(6, .int v2), (4, va_rf v1), (0, va_rf (some a0)), (2, .int a1)]) dX23_hasOwn_7 rfl (Nat.le_of_ble_eq_true rfl) rfl ?_
  refine am_iconst (v := 0) dX23_hasOwn_8 (by decide) ?_
  refine am_istore (L' := [(8, .int 0), (6, .int v2), (4, va_rf v1), (0, va_rf (some a0)), (2, .int a1)]) dX23_hasOwn_9 (Nat.le_of_ble_eq_true rfl) rfl ?_
  exact am_lss h rfl
theorem B_X23_hasOwn_11_f {G : am_G} {d : Nat} {a0 : Nat} {x1 : Int32} {x2 : Option Nat} {x3 : Int32} {x4 : Int32} {σ : am_S} {Q : Int32 → am_S → Prop} (h : ((x3 ≤ x4 → Q 0 σ) ∧ (¬ x3 ≤ x4 → f_ai σ x2 0 x4 (fun v1 => ((¬ v1 = x1 → B_X23_hasOwn_11 G d a0 x1 x2 x3 (x4 + 1) σ Q) ∧ (v1 = x1 → Q 1 σ)))))) : B_X23_hasOwn_11 G d a0 x1 x2 x3 x4 σ Q := by
  unfold B_X23_hasOwn_11
  refine am_iload (x := x4) dX23_hasOwn_11 rfl ?_
  refine am_iload_n (x := x3) dX23_hasOwn_13 rfl rfl ?_
  refine am_icmp_ge (tgt := 37) dX23_hasOwn_14 (by decide) (fun c => ?_) (fun c => ?_)
  · have h := h.1 c
    refine am_iconst (v := 0) dX23_hasOwn_37 (by decide) ?_
    exact am_zret rfl rfl dX23_hasOwn_38 h
  · have h := h.2 c
    refine am_aloadr_n (x := x2) dX23_hasOwn_17 rfl rfl ?_
    refine am_iload (x := x4) dX23_hasOwn_18 rfl ?_
    refine fx_ai0 dX23_hasOwn_20 h (fun v1 h => ?_)
    refine am_istore (L' := [(10, .int v1), (2, .int x1), (4, va_rf x2), (6, .int x3), (8, .int x4)]) dX23_hasOwn_21 (Nat.le_of_ble_eq_true rfl) rfl ?_
    refine am_iload (x := v1) dX23_hasOwn_23 rfl ?_
    refine am_iload_n (x := x1) dX23_hasOwn_25 rfl rfl ?_
    refine am_icmp_ne (tgt := 31) dX23_hasOwn_26 (by decide) (fun c => ?_) (fun c => ?_)
    · have h := h.1 c
      refine am_iinc (x := x4) (v := (x4 + 1)) (L' := [(8, .int (x4 + 1)), (10, .int v1), (2, .int x1), (4, va_rf x2), (6, .int x3)]) dX23_hasOwn_31 rfl rfl (Nat.le_of_ble_eq_true rfl) rfl ?_
      refine am_goto (tgt := 11) dX23_hasOwn_34 (by decide) ?_
      exact am_lss h rfl
    · have h := h.2 c
      refine am_iconst (v := 1) dX23_hasOwn_29 (by decide) ?_
      exact am_zret rfl rfl dX23_hasOwn_30 h
theorem W_X23_isUnder_f {G : am_G} {d : Nat} {a0 : Nat} {a1 : Int32} {σ : am_S} {Q : Int32 → am_S → Prop} (h : f_gi σ (some a0) [21] 0 (fun v1 => ((v1 = a1 → Q 1 σ) ∧ (¬ v1 = a1 → f_gr σ (some a0) [21] 2 (fun v2 => ((v2 = none → Q 0 σ) ∧ (¬ v2 = none → f_gr σ (some a0) [21] 2 (fun v3 => f_o σ v3 [21] (fun b => W_X23_isUnder G d b a1 σ (fun v4 σ5 => ((v4 = 0 → Q 0 σ5) ∧ (¬ v4 = 0 → Q 1 σ5)))))))))))) : W_X23_isUnder G (d + 1) a0 a1 σ Q := by
  unfold W_X23_isUnder
  refine am_aloadr_n (x := some a0) dX23_isUnder_0 rfl rfl ?_
  refine fx_gi (k := 0) (f_fldC (ref := "PondHouse$Kind") inf_X23 (by decide) q905 (Or.inl rfl) f_fld0) dX23_isUnder_1 h (fun v1 h => ?_)
  refine am_iload_n (x := a1) dX23_isUnder_4 rfl rfl ?_
  refine am_icmp_eq (tgt := 26) dX23_isUnder_5 (by decide) (fun c => ?_) (fun c => ?_)
  · have h := h.1 c
    refine am_iconst (v := 1) dX23_isUnder_26 (by decide) ?_
    refine am_goto (tgt := 31) dX23_isUnder_27 (by decide) ?_
    exact am_zret rfl rfl dX23_isUnder_31 h
  · have h := h.2 c
    refine am_aloadr_n (x := some a0) dX23_isUnder_8 rfl rfl ?_
    refine fx_gr (k := 2) (f_fldC (ref := "PondHouse$Kind") inf_X23 (by decide) q910 (Or.inl rfl) f_fld0) dX23_isUnder_9 h (fun v2 h => ?_)
    refine am_ifnullr (tgt := 30) dX23_isUnder_12 (by decide) (fun c => ?_) (fun c => ?_)
    · have h := h.1 c
      refine am_iconst (v := 0) dX23_isUnder_30 (by decide) ?_
      exact am_zret rfl rfl dX23_isUnder_31 h
    · have h := h.2 c
      refine am_aloadr_n (x := some a0) dX23_isUnder_15 rfl rfl ?_
      refine fx_gr (k := 2) (f_fldC (ref := "PondHouse$Kind") inf_X23 (by decide) q910 (Or.inl rfl) f_fld0) dX23_isUnder_16 h (fun v3 h => ?_)
      refine am_iload_n (x := a1) dX23_isUnder_19 rfl rfl ?_
      refine fx_callV (Mc := m_X23_isUnder) (as := [.int a1]) (cs := [21]) (r := v3) (f_clsC inf_X23 q970 f_cls0) bm_X23_isUnder q972 q969 (Nat.le_of_ble_eq_true rfl) dX23_isUnder_20 h (fun b h => mt_X23_isUnder (fx_k2i h (fun v4 σ5 h => ?_) (fun q σ' h => h.elim)))
      refine am_if_eq (tgt := 30) dX23_isUnder_23 (by decide) (fun c => ?_) (fun c => ?_)
      · have h := h.1 c
        refine am_iconst (v := 0) dX23_isUnder_30 (by decide) ?_
        exact am_zret rfl rfl dX23_isUnder_31 h
      · have h := h.2 c
        refine am_iconst (v := 1) dX23_isUnder_26 (by decide) ?_
        refine am_goto (tgt := 31) dX23_isUnder_27 (by decide) ?_
        exact am_zret rfl rfl dX23_isUnder_31 h
theorem W_X24_init_f {G : am_G} {d : Nat} {a0 : Nat} {a1 : Option Nat} {a2 : Int32} {a3 : Option Nat} {σ : am_S} {Q : am_S → Prop} (h : f_p σ (some a0) [22] 0 (va_rf a1) (fun σ1 => f_p σ1 (some a0) [22] 1 (.int a2) (fun σ2 => f_p σ2 (some a0) [22] 2 (va_rf a3) (fun σ3 => Q σ3)))) : W_X24_init G (d + 1) a0 a1 a2 a3 σ Q := by
  unfold W_X24_init
  refine am_aloadr_n (x := some a0) dX24_init_0 rfl rfl ?_
  refine am_objInit q886 q304 q305 (Nat.le_of_ble_eq_true rfl) dX24_init_1 ?_
  refine am_aloadr_n (x := some a0) dX24_init_4 rfl rfl ?_
  refine am_aloadr_n (x := a1) dX24_init_5 rfl rfl ?_
  refine fx_p (k := 0) (v := va_rf a1) (f_putC inf_X24 (by decide) (f_nrf _ _) (f_frf _ _) q887 (Or.inr ⟨rfl, rfl, rfl⟩) f_put0) dX24_init_6 h (fun σ1 h => ?_)
  refine am_aloadr_n (x := some a0) dX24_init_9 rfl rfl ?_
  refine am_iload_n (x := a2) dX24_init_10 rfl rfl ?_
  refine fx_p (k := 1) (v := .int a2) (f_putC inf_X24 (by decide) rfl rfl q890 (Or.inr ⟨rfl, rfl, rfl⟩) f_put0) dX24_init_11 h (fun σ2 h => ?_)
  refine am_aloadr_n (x := some a0) dX24_init_14 rfl rfl ?_
  refine am_aloadr_n (x := a3) dX24_init_15 rfl rfl ?_
  refine fx_p (k := 2) (v := va_rf a3) (f_putC inf_X24 (by decide) (f_nrf _ _) (f_frf _ _) q895 (Or.inr ⟨rfl, rfl, rfl⟩) f_put0) dX24_init_16 h (fun σ3 h => ?_)
  exact am_vret rfl dX24_init_19 h
theorem W_X25_init_f {G : am_G} {d : Nat} {a0 : Nat} {a1 : Int32} {a2 : Int32} {a3 : Int32} {σ : am_S} {Q : am_S → Prop} (h : f_p σ (some a0) [23] 0 (.int a1) (fun σ1 => f_p σ1 (some a0) [23] 1 (.int a2) (fun σ2 => f_p σ2 (some a0) [23] 2 (.int a3) (fun σ3 => Q σ3)))) : W_X25_init G (d + 1) a0 a1 a2 a3 σ Q := by
  unfold W_X25_init
  refine am_aloadr_n (x := some a0) dX25_init_0 rfl rfl ?_
  refine am_objInit q1002 q304 q305 (Nat.le_of_ble_eq_true rfl) dX25_init_1 ?_
  refine am_aloadr_n (x := some a0) dX25_init_4 rfl rfl ?_
  refine am_iload_n (x := a1) dX25_init_5 rfl rfl ?_
  refine fx_p (k := 0) (v := .int a1) (f_putC inf_X25 (by decide) rfl rfl q1003 (Or.inr ⟨rfl, rfl, rfl⟩) f_put0) dX25_init_6 h (fun σ1 h => ?_)
  refine am_aloadr_n (x := some a0) dX25_init_9 rfl rfl ?_
  refine am_iload_n (x := a2) dX25_init_10 rfl rfl ?_
  refine fx_p (k := 1) (v := .int a2) (f_putC inf_X25 (by decide) rfl rfl q1005 (Or.inr ⟨rfl, rfl, rfl⟩) f_put0) dX25_init_11 h (fun σ2 h => ?_)
  refine am_aloadr_n (x := some a0) dX25_init_14 rfl rfl ?_
  refine am_iload_n (x := a3) dX25_init_15 rfl rfl ?_
  refine fx_p (k := 2) (v := .int a3) (f_putC inf_X25 (by decide) rfl rfl q1007 (Or.inl rfl) f_put0) dX25_init_16 h (fun σ3 h => ?_)
  exact am_vret rfl dX25_init_19 h
theorem W_X26_init_f {G : am_G} {d : Nat} {a0 : Nat} {a1 : Option Nat} {σ : am_S} {Q : am_S → Prop} (h : f_p σ (some a0) [24] 0 (va_rf a1) (fun σ1 => Q σ1)) : W_X26_init G (d + 1) a0 a1 σ Q := by
  unfold W_X26_init
  refine am_aloadr_n (x := some a0) dX26_init_0 rfl rfl ?_
  refine am_objInit q2214 q304 q305 (Nat.le_of_ble_eq_true rfl) dX26_init_1 ?_
  refine am_aloadr_n (x := some a0) dX26_init_4 rfl rfl ?_
  refine am_aloadr_n (x := a1) dX26_init_5 rfl rfl ?_
  refine fx_p (k := 0) (v := va_rf a1) (f_putC inf_X26 (by decide) (f_nrf _ _) (f_frf _ _) q2215 (Or.inr ⟨rfl, rfl, rfl⟩) f_put0) dX26_init_6 h (fun σ1 h => ?_)
  exact am_vret rfl dX26_init_9 h
theorem W_X27_needed_f {G : am_G} {d : Nat} {a0 : Nat} {a1 : Option Nat} {a2 : Int32} {a3 : Int32} {σ : am_S} {Q : Option Nat → am_S → Prop} {E : Nat → am_S → Prop} (h : W_X0_draft G d a1 a2 σ (fun v1 σ2 => ((¬ v1 = none → Q v1 σ2) ∧ (v1 = none → f_gr σ2 (some a0) [25, 26, 28, 29, 30] 1 (fun v5 => f_o σ2 v5 [0] (fun b => W_X0_refuses G d b 1 a3 (-1) σ2 (fun v6 σ7 => f_o σ7 v6 [5] (fun q => E q σ7)))))))) : W_X27_needed G (d + 1) a0 a1 a2 a3 σ Q E := by
  unfold W_X27_needed
  refine am_aloadr_n (x := a1) dX27_needed_0 rfl rfl ?_
  refine am_iload_n (x := a2) dX27_needed_1 rfl rfl ?_
  refine fx_callSN (Mc := m_X0_draft) (as := [va_rf a1, .int a2]) bm_X0_draft q748 q749 (Nat.le_of_ble_eq_true rfl) dX27_needed_2 (mt_X0_draft (fx_k2r h (fun v1 σ2 h => ?_) (fun q σ' h => h.elim)))
  refine am_astore (x := v1) (L' := [(8, va_rf v1), (0, va_rf (some a0)), (2, va_rf a1), (4, .int a2), (6, .int a3)]) dX27_needed_5 (Nat.le_of_ble_eq_true rfl) rfl ?_
  refine am_aloadr (x := v1) dX27_needed_7 rfl ?_
  refine am_ifnonnullr (tgt := 23) dX27_needed_9 (by decide) (fun c => ?_) (fun c => ?_)
  · have h := h.1 c
    refine am_aloadr (x := v1) dX27_needed_23 rfl ?_
    exact fx_aret rfl rfl dX27_needed_25 h
  · have h := h.2 c
    refine am_aloadr_n (x := some a0) dX27_needed_12 rfl rfl ?_
    refine fx_gr (k := 1) (f_fldC (ref := "PondHouse$Change") inf_X28 (by decide) q2103 (Or.inl rfl) (f_fldC (ref := "PondHouse$Change") inf_X29 (by decide) q2103 (Or.inl rfl) (f_fldC (ref := "PondHouse$Change") inf_X31 (by decide) q2103 (Or.inl rfl) (f_fldC (ref := "PondHouse$Change") inf_X32 (by decide) q2103 (Or.inl rfl) (f_fldC (ref := "PondHouse$Change") inf_X33 (by decide) q2103 (Or.inl rfl) f_fld0))))) dX27_needed_13 h (fun v5 h => ?_)
    refine am_iconst (v := 1) dX27_needed_16 (by decide) ?_
    refine am_iload_n (x := a3) dX27_needed_17 rfl rfl ?_
    refine am_iconst (v := (-1)) dX27_needed_18 (by decide) ?_
    refine fx_callVN (Mc := m_X0_refuses) (as := [.int 1, .int a3, .int (-1)]) (cs := [0]) (r := v5) (f_clsC inf_X0 qs23 f_cls0) bm_X0_refuses q751 q753 (Nat.le_of_ble_eq_true rfl) dX27_needed_19 h (fun b h => mt_X0_refuses (fx_k2r h (fun v6 σ7 h => ?_) (fun q σ' h => h.elim)))
    exact fx_throw (cs := [5]) dX27_needed_22 h (fun q h => am_xout (by decide +kernel) h)
theorem W_X27_adds_f {G : am_G} {d : Nat} {a0 : Nat} {a1 : Option Nat} {a2 : Option Nat} {a3 : Int32} {σ : am_S} {Q : am_S → Prop} {E : Nat → am_S → Prop} (h : f_gi σ a2 [9] 0 (fun v1 => ((¬ v1 = 2 → B_X27_adds_25 G (d + 1) a0 a1 a2 a3 0 σ Q E) ∧ (v1 = 2 → f_gi σ a2 [9] 1 (fun v2 => f_o σ a1 [8] (fun b => W_X8_act G d b v2 σ (fun v3 σ4 => ((v3 = (-1) → B_X27_adds_25 G (d + 1) a0 a1 a2 a3 0 σ4 Q E) ∧ (¬ v3 = (-1) → B_X27_adds_25 G (d + 1) a0 a1 a2 a3 1 σ4 Q E))))))))) : W_X27_adds G (d + 1) a0 a1 a2 a3 σ Q E := by
  unfold W_X27_adds
  refine am_aloadr_n (x := a2) dX27_adds_0 rfl rfl ?_
  refine fx_gi (k := 0) (f_fldC (ref := "PondHouse$Member") inf_X9 (by decide) q2025 (Or.inl rfl) f_fld0) dX27_adds_1 h (fun v1 h => ?_)
  refine am_iconst (v := 2) dX27_adds_4 (by decide) ?_
  refine am_icmp_ne (tgt := 24) dX27_adds_5 (by decide) (fun c => ?_) (fun c => ?_)
  · have h := h.1 c
    refine am_iconst (v := 0) dX27_adds_24 (by decide) ?_
    exact am_lss h rfl
  · have h := h.2 c
    refine am_aloadr_n (x := a1) dX27_adds_8 rfl rfl ?_
    refine am_aloadr_n (x := a2) dX27_adds_9 rfl rfl ?_
    refine fx_gi (k := 1) (f_fldC (ref := "PondHouse$Member") inf_X9 (by decide) q2028 (Or.inl rfl) f_fld0) dX27_adds_10 h (fun v2 h => ?_)
    refine fx_callV (Mc := m_X8_act) (as := [.int v2]) (cs := [8]) (r := a1) (f_clsC inf_X8 q777 f_cls0) bm_X8_act q775 q776 (Nat.le_of_ble_eq_true rfl) dX27_adds_13 h (fun b h => mt_X8_act (fx_k2i h (fun v3 σ4 h => ?_) (fun q σ' h => h.elim)))
    refine am_iconst (v := (-1)) dX27_adds_16 (by decide) ?_
    refine am_icmp_eq (tgt := 24) dX27_adds_17 (by decide) (fun c => ?_) (fun c => ?_)
    · have h := h.1 c
      refine am_iconst (v := 0) dX27_adds_24 (by decide) ?_
      exact am_lss h rfl
    · have h := h.2 c
      refine am_iconst (v := 1) dX27_adds_20 (by decide) ?_
      refine am_goto (tgt := 25) dX27_adds_21 (by decide) ?_
      exact am_lss h rfl
theorem B_X27_adds_25_f {G : am_G} {d : Nat} {a0 : Nat} {x1 : Option Nat} {x2 : Option Nat} {x3 : Int32} {s0 : Int32} {σ : am_S} {Q : am_S → Prop} {E : Nat → am_S → Prop} (h : f_gi σ x2 [9] 0 (fun v1 => ((v1 = 2 → B_X27_adds_57 G (d + 1) a0 x1 x2 x3 s0 σ Q E) ∧ (¬ v1 = 2 → f_gi σ x2 [9] 1 (fun v2 => f_o σ x1 [8] (fun b => W_X8_holds G d b v2 σ (fun v3 σ4 => ((v3 = 0 → B_X27_adds_57 G (d + 1) a0 x1 x2 x3 s0 σ4 Q E) ∧ (¬ v3 = 0 → f_gr σ4 (some a0) [25, 26, 28, 29, 30] 1 (fun v7 => f_o σ4 v7 [0] (fun b => W_X0_refuses G d b 3 x3 (-1) σ4 (fun v8 σ9 => f_o σ9 v8 [5] (fun q => E q σ9))))))))))))) : B_X27_adds_25 G (d + 1) a0 x1 x2 x3 s0 σ Q E := by
  unfold B_X27_adds_25
  refine am_istore (L' := [(8, .int s0), (0, va_rf (some a0)), (2, va_rf x1), (4, va_rf x2), (6, .int x3)]) dX27_adds_25 (Nat.le_of_ble_eq_true rfl) rfl ?_
  refine am_aloadr_n (x := x2) dX27_adds_27 rfl rfl ?_
  refine fx_gi (k := 0) (f_fldC (ref := "PondHouse$Member") inf_X9 (by decide) q2025 (Or.inl rfl) f_fld0) dX27_adds_28 h (fun v1 h => ?_)
  refine am_iconst (v := 2) dX27_adds_31 (by decide) ?_
  refine am_icmp_eq (tgt := 57) dX27_adds_32 (by decide) (fun c => ?_) (fun c => ?_)
  · have h := h.1 c
    exact am_lss h rfl
  · have h := h.2 c
    refine am_aloadr_n (x := x1) dX27_adds_35 rfl rfl ?_
    refine am_aloadr_n (x := x2) dX27_adds_36 rfl rfl ?_
    refine fx_gi (k := 1) (f_fldC (ref := "PondHouse$Member") inf_X9 (by decide) q2028 (Or.inl rfl) f_fld0) dX27_adds_37 h (fun v2 h => ?_)
    refine fx_callV (Mc := m_X8_holds) (as := [.int v2]) (cs := [8]) (r := x1) (f_clsC inf_X8 q784 f_cls0) bm_X8_holds q782 q783 (Nat.le_of_ble_eq_true rfl) dX27_adds_40 h (fun b h => mt_X8_holds (fx_k2i h (fun v3 σ4 h => ?_) (fun q σ' h => h.elim)))
    refine am_if_eq (tgt := 57) dX27_adds_43 (by decide) (fun c => ?_) (fun c => ?_)
    · have h := h.1 c
      exact am_lss h rfl
    · have h := h.2 c
      refine am_aloadr_n (x := some a0) dX27_adds_46 rfl rfl ?_
      refine fx_gr (k := 1) (f_fldC (ref := "PondHouse$Change") inf_X28 (by decide) q2103 (Or.inl rfl) (f_fldC (ref := "PondHouse$Change") inf_X29 (by decide) q2103 (Or.inl rfl) (f_fldC (ref := "PondHouse$Change") inf_X31 (by decide) q2103 (Or.inl rfl) (f_fldC (ref := "PondHouse$Change") inf_X32 (by decide) q2103 (Or.inl rfl) (f_fldC (ref := "PondHouse$Change") inf_X33 (by decide) q2103 (Or.inl rfl) f_fld0))))) dX27_adds_47 h (fun v7 h => ?_)
      refine am_iconst (v := 3) dX27_adds_50 (by decide) ?_
      refine am_iload_n (x := x3) dX27_adds_51 rfl rfl ?_
      refine am_iconst (v := (-1)) dX27_adds_52 (by decide) ?_
      refine fx_callVN (Mc := m_X0_refuses) (as := [.int 3, .int x3, .int (-1)]) (cs := [0]) (r := v7) (f_clsC inf_X0 qs23 f_cls0) bm_X0_refuses q751 q753 (Nat.le_of_ble_eq_true rfl) dX27_adds_53 h (fun b h => mt_X0_refuses (fx_k2r h (fun v8 σ9 h => ?_) (fun q σ' h => h.elim)))
      exact fx_throw (cs := [5]) dX27_adds_56 h (fun q h => am_xout (by decide +kernel) h)
theorem B_X27_adds_57_f {G : am_G} {d : Nat} {a0 : Nat} {x1 : Option Nat} {x2 : Option Nat} {x3 : Int32} {x4 : Int32} {σ : am_S} {Q : am_S → Prop} {E : Nat → am_S → Prop} (h : ((¬ x4 = 0 → f_o σ x1 [8] (fun b => W_X8_add G d b x2 σ (fun σ2 => Q σ2))) ∧ (x4 = 0 → f_gi σ x2 [9] 0 (fun v5 => f_o σ x1 [8] (fun b => W_X8_isFull G d b v5 σ (fun v6 σ7 => ((v6 = 0 → f_o σ7 x1 [8] (fun b => W_X8_add G d b x2 σ7 (fun σ11 => Q σ11))) ∧ (¬ v6 = 0 → f_gr σ7 (some a0) [25, 26, 28, 29, 30] 1 (fun v14 => f_o σ7 v14 [0] (fun b => W_X0_refuses G d b 7 x3 (-1) σ7 (fun v15 σ16 => f_o σ16 v15 [5] (fun q => E q σ16)))))))))))) : B_X27_adds_57 G (d + 1) a0 x1 x2 x3 x4 σ Q E := by
  unfold B_X27_adds_57
  refine am_iload (x := x4) dX27_adds_57 rfl ?_
  refine am_if_ne (tgt := 85) dX27_adds_59 (by decide) (fun c => ?_) (fun c => ?_)
  · have h := h.1 c
    refine am_aloadr_n (x := x1) dX27_adds_85 rfl rfl ?_
    refine am_aloadr_n (x := x2) dX27_adds_86 rfl rfl ?_
    refine fx_callV (Mc := m_X8_add) (as := [va_rf x2]) (cs := [8]) (r := x1) (f_clsC inf_X8 q796 f_cls0) bm_X8_add q794 q795 (Nat.le_of_ble_eq_true rfl) dX27_adds_87 h (fun b h => mt_X8_add (fx_k2v h (fun σ2 h => ?_) (fun q σ' h => h.elim)))
    exact am_vret rfl dX27_adds_90 h
  · have h := h.2 c
    refine am_aloadr_n (x := x1) dX27_adds_62 rfl rfl ?_
    refine am_aloadr_n (x := x2) dX27_adds_63 rfl rfl ?_
    refine fx_gi (k := 0) (f_fldC (ref := "PondHouse$Member") inf_X9 (by decide) q2025 (Or.inl rfl) f_fld0) dX27_adds_64 h (fun v5 h => ?_)
    refine fx_callV (Mc := m_X8_isFull) (as := [.int v5]) (cs := [8]) (r := x1) (f_clsC inf_X8 q792 f_cls0) bm_X8_isFull q790 q791 (Nat.le_of_ble_eq_true rfl) dX27_adds_67 h (fun b h => mt_X8_isFull (fx_k2i h (fun v6 σ7 h => ?_) (fun q σ' h => h.elim)))
    refine am_if_eq (tgt := 85) dX27_adds_70 (by decide) (fun c => ?_) (fun c => ?_)
    · have h := h.1 c
      refine am_aloadr_n (x := x1) dX27_adds_85 rfl rfl ?_
      refine am_aloadr_n (x := x2) dX27_adds_86 rfl rfl ?_
      refine fx_callV (Mc := m_X8_add) (as := [va_rf x2]) (cs := [8]) (r := x1) (f_clsC inf_X8 q796 f_cls0) bm_X8_add q794 q795 (Nat.le_of_ble_eq_true rfl) dX27_adds_87 h (fun b h => mt_X8_add (fx_k2v h (fun σ11 h => ?_) (fun q σ' h => h.elim)))
      exact am_vret rfl dX27_adds_90 h
    · have h := h.2 c
      refine am_aloadr_n (x := some a0) dX27_adds_73 rfl rfl ?_
      refine fx_gr (k := 1) (f_fldC (ref := "PondHouse$Change") inf_X28 (by decide) q2103 (Or.inl rfl) (f_fldC (ref := "PondHouse$Change") inf_X29 (by decide) q2103 (Or.inl rfl) (f_fldC (ref := "PondHouse$Change") inf_X31 (by decide) q2103 (Or.inl rfl) (f_fldC (ref := "PondHouse$Change") inf_X32 (by decide) q2103 (Or.inl rfl) (f_fldC (ref := "PondHouse$Change") inf_X33 (by decide) q2103 (Or.inl rfl) f_fld0))))) dX27_adds_74 h (fun v14 h => ?_)
      refine am_bipush (v := 7) dX27_adds_77 (by decide) ?_
      refine am_iload_n (x := x3) dX27_adds_79 rfl rfl ?_
      refine am_iconst (v := (-1)) dX27_adds_80 (by decide) ?_
      refine fx_callVN (Mc := m_X0_refuses) (as := [.int 7, .int x3, .int (-1)]) (cs := [0]) (r := v14) (f_clsC inf_X0 qs23 f_cls0) bm_X0_refuses q751 q753 (Nat.le_of_ble_eq_true rfl) dX27_adds_81 h (fun b h => mt_X0_refuses (fx_k2r h (fun v15 σ16 h => ?_) (fun q σ' h => h.elim)))
      exact fx_throw (cs := [5]) dX27_adds_84 h (fun q h => am_xout (by decide +kernel) h)
theorem W_X27_init_f {G : am_G} {d : Nat} {a0 : Nat} {a1 : Option Nat} {a2 : Int32} {σ : am_S} {Q : am_S → Prop} (h : f_p σ (some a0) [25, 26, 28, 29, 30] 1 (va_rf a1) (fun σ1 => f_p σ1 (some a0) [25, 26, 28, 29, 30] 0 (.int a2) (fun σ2 => Q σ2))) : W_X27_init G (d + 1) a0 a1 a2 σ Q := by
  unfold W_X27_init
  refine am_aloadr_n (x := some a0) dX27_init_0 rfl rfl ?_
  refine am_aloadr_n (x := a1) dX27_init_1 rfl rfl ?_
  refine fx_p (k := 1) (v := va_rf a1) (f_putC inf_X28 (by decide) (f_nrf _ _) (f_frf _ _) q2103 (Or.inr ⟨rfl, rfl, rfl⟩) (f_putC inf_X29 (by decide) (f_nrf _ _) (f_frf _ _) q2103 (Or.inr ⟨rfl, rfl, rfl⟩) (f_putC inf_X31 (by decide) (f_nrf _ _) (f_frf _ _) q2103 (Or.inr ⟨rfl, rfl, rfl⟩) (f_putC inf_X32 (by decide) (f_nrf _ _) (f_frf _ _) q2103 (Or.inr ⟨rfl, rfl, rfl⟩) (f_putC inf_X33 (by decide) (f_nrf _ _) (f_frf _ _) q2103 (Or.inr ⟨rfl, rfl, rfl⟩) f_put0))))) dX27_init_2 h (fun σ1 h => ?_)
  refine am_aloadr_n (x := some a0) dX27_init_5 rfl rfl ?_
  refine am_objInit q2084 q304 q305 (Nat.le_of_ble_eq_true rfl) dX27_init_6 ?_
  refine am_aloadr_n (x := some a0) dX27_init_9 rfl rfl ?_
  refine am_iload_n (x := a2) dX27_init_10 rfl rfl ?_
  refine fx_p (k := 0) (v := .int a2) (f_putC inf_X28 (by decide) rfl rfl q2091 (Or.inr ⟨rfl, rfl, rfl⟩) (f_putC inf_X29 (by decide) rfl rfl q2091 (Or.inr ⟨rfl, rfl, rfl⟩) (f_putC inf_X31 (by decide) rfl rfl q2091 (Or.inr ⟨rfl, rfl, rfl⟩) (f_putC inf_X32 (by decide) rfl rfl q2091 (Or.inr ⟨rfl, rfl, rfl⟩) (f_putC inf_X33 (by decide) rfl rfl q2091 (Or.inr ⟨rfl, rfl, rfl⟩) f_put0))))) dX27_init_11 h (fun σ2 h => ?_)
  exact am_vret rfl dX27_init_14 h
theorem W_X28_makes_f {G : am_G} {d : Nat} {a0 : Nat} {a1 : Option Nat} {a2 : Int32} {σ : am_S} {Q : am_S → Prop} {E : Nat → am_S → Prop} (h : f_gi σ (some a0) [25] 0 (fun v1 => W_X0_draft G d a1 v1 σ (fun v2 σ3 => ((v2 = none → f_o σ3 a1 [7] (fun b => W_X7_size G d b σ3 (fun v6 σ7 => ((¬ v6 = 12 → f_gi σ7 (some a0) [25] 2 (fun v10 => ((v10 = (-1) → B_X28_makes_62 G (d + 1) a0 a1 a2 σ7 Q E) ∧ (¬ v10 = (-1) → f_gi σ7 (some a0) [25] 2 (fun v11 => f_o σ7 (some a0) [25] (fun b => W_X27_needed G d b a1 v11 a2 σ7 (fun v12 σ13 => B_X28_makes_62 G (d + 1) a0 a1 a2 σ13 Q E) E)))))) ∧ (v6 = 12 → f_gr σ7 (some a0) [25] 4 (fun v16 => f_o σ7 v16 [0] (fun b => W_X0_refuses G d b 7 a2 (-1) σ7 (fun v17 σ18 => f_o σ18 v17 [5] (fun q => E q σ18))))))))) ∧ (¬ v2 = none → f_gr σ3 (some a0) [25] 4 (fun v21 => f_o σ3 v21 [0] (fun b => W_X0_refuses G d b 2 a2 (-1) σ3 (fun v22 σ23 => f_o σ23 v22 [5] (fun q => E q σ23))))))))) : W_X28_makes G (d + 1) a0 a1 a2 σ Q E := by
  unfold W_X28_makes
  refine am_aloadr_n (x := a1) dX28_makes_0 rfl rfl ?_
  refine am_aloadr_n (x := some a0) dX28_makes_1 rfl rfl ?_
  refine fx_gi (k := 0) (f_fldC (ref := "PondHouse$Comes") inf_X28 (by decide) q2092 (Or.inr ⟨rfl, q2093⟩) f_fld0) dX28_makes_2 h (fun v1 h => ?_)
  refine fx_callSN (Mc := m_X0_draft) (as := [va_rf a1, .int v1]) bm_X0_draft q758 q749 (Nat.le_of_ble_eq_true rfl) dX28_makes_5 (mt_X0_draft (fx_k2r h (fun v2 σ3 h => ?_) (fun q σ' h => h.elim)))
  refine am_ifnullr (tgt := 22) dX28_makes_8 (by decide) (fun c => ?_) (fun c => ?_)
  · have h := h.1 c
    refine am_aloadr_n (x := a1) dX28_makes_22 rfl rfl ?_
    refine fx_callV (Mc := m_X7_size) (as := []) (cs := [7]) (r := a1) (f_clsC inf_X7 q711 f_cls0) bm_X7_size q760 q710 (Nat.le_of_ble_eq_true rfl) dX28_makes_23 h (fun b h => mt_X7_size (fx_k2i h (fun v6 σ7 h => ?_) (fun q σ' h => h.elim)))
    refine am_bipush (v := 12) dX28_makes_26 (by decide) ?_
    refine am_icmp_ne (tgt := 43) dX28_makes_28 (by decide) (fun c => ?_) (fun c => ?_)
    · have h := h.1 c
      refine am_aloadr_n (x := some a0) dX28_makes_43 rfl rfl ?_
      refine fx_gi (k := 2) (f_fldC (ref := "PondHouse$Comes") inf_X28 (by decide) q2087 (Or.inl rfl) f_fld0) dX28_makes_44 h (fun v10 h => ?_)
      refine am_iconst (v := (-1)) dX28_makes_47 (by decide) ?_
      refine am_icmp_eq (tgt := 62) dX28_makes_48 (by decide) (fun c => ?_) (fun c => ?_)
      · have h := h.1 c
        exact am_lss h rfl
      · have h := h.2 c
        refine am_aloadr_n (x := some a0) dX28_makes_51 rfl rfl ?_
        refine am_aloadr_n (x := a1) dX28_makes_52 rfl rfl ?_
        refine am_aloadr_n (x := some a0) dX28_makes_53 rfl rfl ?_
        refine fx_gi (k := 2) (f_fldC (ref := "PondHouse$Comes") inf_X28 (by decide) q2087 (Or.inl rfl) f_fld0) dX28_makes_54 h (fun v11 h => ?_)
        refine am_iload_n (x := a2) dX28_makes_57 rfl rfl ?_
        refine fx_callVO (Mc := m_X27_needed) (as := [va_rf a1, .int v11, .int a2]) (x := ⟨"PondHouse$Comes", "needed", "(LPondHouse$Row;II)LPondHouse$Draft;"⟩) (owner := "PondHouse$Change") (r := (some a0)) inf_X28 q762 q746 q747 q763 rfl ⟨by decide, by decide⟩ bm_X27_needed q761 q746 (Nat.le_of_ble_eq_true rfl) dX28_makes_58 h (fun b h => mt_X27_needed (fx_k2r h (fun v12 σ13 h => ?_) (fun q σ' h => am_xout (by decide +kernel) h)))
        refine am_pop dX28_makes_61 (am_rf_cat _) ?_
        exact am_lss h rfl
    · have h := h.2 c
      refine am_aloadr_n (x := some a0) dX28_makes_31 rfl rfl ?_
      refine fx_gr (k := 4) (f_fldC (ref := "PondHouse$Comes") inf_X28 (by decide) q2090 (Or.inl rfl) f_fld0) dX28_makes_32 h (fun v16 h => ?_)
      refine am_bipush (v := 7) dX28_makes_35 (by decide) ?_
      refine am_iload_n (x := a2) dX28_makes_37 rfl rfl ?_
      refine am_iconst (v := (-1)) dX28_makes_38 (by decide) ?_
      refine fx_callVN (Mc := m_X0_refuses) (as := [.int 7, .int a2, .int (-1)]) (cs := [0]) (r := v16) (f_clsC inf_X0 qs23 f_cls0) bm_X0_refuses q759 q753 (Nat.le_of_ble_eq_true rfl) dX28_makes_39 h (fun b h => mt_X0_refuses (fx_k2r h (fun v17 σ18 h => ?_) (fun q σ' h => h.elim)))
      exact fx_throw (cs := [5]) dX28_makes_42 h (fun q h => am_xout (by decide +kernel) h)
  · have h := h.2 c
    refine am_aloadr_n (x := some a0) dX28_makes_11 rfl rfl ?_
    refine fx_gr (k := 4) (f_fldC (ref := "PondHouse$Comes") inf_X28 (by decide) q2090 (Or.inl rfl) f_fld0) dX28_makes_12 h (fun v21 h => ?_)
    refine am_iconst (v := 2) dX28_makes_15 (by decide) ?_
    refine am_iload_n (x := a2) dX28_makes_16 rfl rfl ?_
    refine am_iconst (v := (-1)) dX28_makes_17 (by decide) ?_
    refine fx_callVN (Mc := m_X0_refuses) (as := [.int 2, .int a2, .int (-1)]) (cs := [0]) (r := v21) (f_clsC inf_X0 qs23 f_cls0) bm_X0_refuses q759 q753 (Nat.le_of_ble_eq_true rfl) dX28_makes_18 h (fun b h => mt_X0_refuses (fx_k2r h (fun v22 σ23 h => ?_) (fun q σ' h => h.elim)))
    exact fx_throw (cs := [5]) dX28_makes_21 h (fun q h => am_xout (by decide +kernel) h)
theorem B_X28_makes_62_f {G : am_G} {d : Nat} {a0 : Nat} {x1 : Option Nat} {x2 : Int32} {σ : am_S} {Q : am_S → Prop} {E : Nat → am_S → Prop} (h : f_new G σ 8 13 tyX8 (fun n1 σ2 => f_gi σ2 (some a0) [25] 0 (fun v3 => f_gi σ2 (some a0) [25] 2 (fun v4 => W_X8_init_2 G d n1 v3 v4 σ2 (fun σ6 => f_p σ6 (some n1) [8] 2 (.int 1) (fun σ9 => f_o σ9 x1 [7] (fun b => W_X7_add G d b (some n1) σ9 (fun σ11 => B_X28_makes_91 G (d + 1) a0 x2 (some n1) 0 σ11 Q E)))))))) : B_X28_makes_62 G (d + 1) a0 x1 x2 σ Q E := by
  unfold B_X28_makes_62
  refine fx_new inf_X8 q764 q551 q186 dX28_makes_62 h (fun n1 σ2 h => ?_)
  refine am_dup dX28_makes_65 (am_rf_cat _) ?_
  refine am_aloadr_n (x := some a0) dX28_makes_66 rfl rfl ?_
  refine fx_gi (k := 0) (f_fldC (ref := "PondHouse$Comes") inf_X28 (by decide) q2092 (Or.inr ⟨rfl, q2093⟩) f_fld0) dX28_makes_67 h (fun v3 h => ?_)
  refine am_aloadr_n (x := some a0) dX28_makes_70 rfl rfl ?_
  refine fx_gi (k := 2) (f_fldC (ref := "PondHouse$Comes") inf_X28 (by decide) q2087 (Or.inl rfl) f_fld0) dX28_makes_71 h (fun v4 h => ?_)
  refine fx_callI (Mc := m_X8_init_2) (as := [.int v3, .int v4]) bm_X8_init_2 q765 q556 rfl rfl (Nat.le_of_ble_eq_true rfl) dX28_makes_74 (mt_X8_init_2 (fx_k2v h (fun σ6 h => ?_) (fun q σ' h => h.elim)))
  refine am_astore_n (x := (some n1)) (L' := [(6, va_rf (some n1)), (0, va_rf (some a0)), (2, va_rf x1), (4, .int x2)]) dX28_makes_77 rfl (Nat.le_of_ble_eq_true rfl) rfl ?_
  refine am_aloadr_n (x := (some n1)) dX28_makes_78 rfl rfl ?_
  refine am_iconst (v := 1) dX28_makes_79 (by decide) ?_
  refine fx_p (k := 2) (v := .int 1) (f_putC inf_X8 (by decide) rfl rfl q570 (Or.inl rfl) f_put0) dX28_makes_80 h (fun σ9 h => ?_)
  refine am_aloadr_n (x := x1) dX28_makes_83 rfl rfl ?_
  refine am_aloadr_n (x := (some n1)) dX28_makes_84 rfl rfl ?_
  refine fx_callV (Mc := m_X7_add) (as := [va_rf (some n1)]) (cs := [7]) (r := x1) (f_clsC inf_X7 q626 f_cls0) bm_X7_add q766 q625 (Nat.le_of_ble_eq_true rfl) dX28_makes_85 h (fun b h => mt_X7_add (fx_k2v h (fun σ11 h => ?_) (fun q σ' h => h.elim)))
  refine am_iconst (v := 0) dX28_makes_88 (by decide) ?_
  refine am_istore (L' := [(8, .int 0), (6, va_rf (some n1)), (0, va_rf (some a0)), (2, va_rf x1), (4, .int x2)]) dX28_makes_89 (Nat.le_of_ble_eq_true rfl) rfl ?_
  exact am_lss h rfl
theorem B_X28_makes_91_f {G : am_G} {d : Nat} {a0 : Nat} {x2 : Int32} {x3 : Option Nat} {x4 : Int32} {σ : am_S} {Q : am_S → Prop} {E : Nat → am_S → Prop} (h : f_gr σ (some a0) [25] 3 (fun v1 => f_o σ v1 [7] (fun b => W_X7_size G d b σ (fun v2 σ3 => ((v2 ≤ x4 → Q σ3) ∧ (¬ v2 ≤ x4 → f_gr σ3 (some a0) [25] 3 (fun v6 => f_o σ3 v6 [7] (fun b => W_X7_get G d b x4 σ3 (fun v7 σ8 => f_k σ8 v7 [9] (f_o σ8 (some a0) [25] (fun b => W_X27_adds G d b x3 v7 x2 σ8 (fun σ12 => B_X28_makes_91 G (d + 1) a0 x2 x3 (x4 + 1) σ12 Q E) E))))))))))) : B_X28_makes_91 G (d + 1) a0 x2 x3 x4 σ Q E := by
  unfold B_X28_makes_91
  refine am_iload (x := x4) dX28_makes_91 rfl ?_
  refine am_aloadr_n (x := some a0) dX28_makes_93 rfl rfl ?_
  refine fx_gr (k := 3) (f_fldC (ref := "PondHouse$Comes") inf_X28 (by decide) q2088 (Or.inl rfl) f_fld0) dX28_makes_94 h (fun v1 h => ?_)
  refine fx_callV (Mc := m_X7_size) (as := []) (cs := [7]) (r := v1) (f_clsC inf_X7 q711 f_cls0) bm_X7_size q760 q710 (Nat.le_of_ble_eq_true rfl) dX28_makes_97 h (fun b h => mt_X7_size (fx_k2i h (fun v2 σ3 h => ?_) (fun q σ' h => h.elim)))
  refine am_icmp_ge (tgt := 127) dX28_makes_100 (by decide) (fun c => ?_) (fun c => ?_)
  · have h := h.1 c
    exact am_vret rfl dX28_makes_127 h
  · have h := h.2 c
    refine am_aloadr_n (x := some a0) dX28_makes_103 rfl rfl ?_
    refine am_aloadr_n (x := x3) dX28_makes_104 rfl rfl ?_
    refine am_aloadr_n (x := some a0) dX28_makes_105 rfl rfl ?_
    refine fx_gr (k := 3) (f_fldC (ref := "PondHouse$Comes") inf_X28 (by decide) q2088 (Or.inl rfl) f_fld0) dX28_makes_106 h (fun v6 h => ?_)
    refine am_iload (x := x4) dX28_makes_109 rfl ?_
    refine fx_callV (Mc := m_X7_get) (as := [.int x4]) (cs := [7]) (r := v6) (f_clsC inf_X7 q719 f_cls0) bm_X7_get q767 q718 (Nat.le_of_ble_eq_true rfl) dX28_makes_111 h (fun b h => mt_X7_get (fx_k2r h (fun v7 σ8 h => ?_) (fun q σ' h => h.elim)))
    refine fx_cc (cs := [9]) (f_clsC inf_X9 (Or.inl rfl) f_cls0) q768 dX28_makes_114 h (fun h => ?_)
    refine am_iload_n (x := x2) dX28_makes_117 rfl rfl ?_
    refine fx_callVO (Mc := m_X27_adds) (as := [va_rf x3, va_rf v7, .int x2]) (x := ⟨"PondHouse$Comes", "adds", "(LPondHouse$Draft;LPondHouse$Member;I)V"⟩) (owner := "PondHouse$Change") (r := (some a0)) inf_X28 q770 q773 q774 q772 rfl ⟨by decide, by decide⟩ bm_X27_adds q769 q773 (Nat.le_of_ble_eq_true rfl) dX28_makes_118 h (fun b h => mt_X27_adds (fx_k2v h (fun σ12 h => ?_) (fun q σ' h => am_xout (by decide +kernel) h)))
    refine am_iinc (x := x4) (v := (x4 + 1)) (L' := [(8, .int (x4 + 1)), (0, va_rf (some a0)), (4, .int x2), (6, va_rf x3)]) dX28_makes_121 rfl rfl (Nat.le_of_ble_eq_true rfl) rfl ?_
    refine am_goto (tgt := 91) dX28_makes_124 (by decide) ?_
    exact am_lss h rfl
theorem W_X28_init_f {G : am_G} {d : Nat} {a0 : Nat} {a1 : Option Nat} {a2 : Int32} {a3 : Int32} {σ : am_S} {Q : am_S → Prop} (h : f_p σ (some a0) [25] 4 (va_rf a1) (fun σ1 => W_X27_init G d a0 a1 a2 σ1 (fun σ3 => f_new G σ3 7 1 tyX7 (fun n6 σ7 => W_X7_init G d n6 σ7 (fun σ9 => f_p σ9 (some a0) [25] 3 (va_rf (some n6)) (fun σ12 => f_p σ12 (some a0) [25] 2 (.int a3) (fun σ13 => Q σ13))))))) : W_X28_init G (d + 1) a0 a1 a2 a3 σ Q := by
  unfold W_X28_init
  refine am_aloadr_n (x := some a0) dX28_init_0 rfl rfl ?_
  refine am_aloadr_n (x := a1) dX28_init_1 rfl rfl ?_
  refine fx_p (k := 4) (v := va_rf a1) (f_putC inf_X28 (by decide) (f_nrf _ _) (f_frf _ _) q2090 (Or.inr ⟨rfl, rfl, rfl⟩) f_put0) dX28_init_2 h (fun σ1 h => ?_)
  refine am_aloadr_n (x := some a0) dX28_init_5 rfl rfl ?_
  refine am_aloadr_n (x := a1) dX28_init_6 rfl rfl ?_
  refine am_iload_n (x := a2) dX28_init_7 rfl rfl ?_
  refine fx_callI (Mc := m_X27_init) (as := [va_rf a1, .int a2]) bm_X27_init q2081 q2082 rfl rfl (Nat.le_of_ble_eq_true rfl) dX28_init_8 (mt_X27_init (fx_k2v h (fun σ3 h => ?_) (fun q σ' h => h.elim)))
  refine am_aloadr_n (x := some a0) dX28_init_11 rfl rfl ?_
  refine fx_new inf_X7 q2085 q515 q181 dX28_init_12 h (fun n6 σ7 h => ?_)
  refine am_dup dX28_init_15 (am_rf_cat _) ?_
  refine fx_callIN (Mc := m_X7_init) (as := []) bm_X7_init q2086 q517 rfl rfl (Nat.le_of_ble_eq_true rfl) dX28_init_16 (mt_X7_init (fx_k2v h (fun σ9 h => ?_) (fun q σ' h => h.elim)))
  refine fx_p (k := 3) (v := va_rf (some n6)) (f_putC inf_X28 (by decide) (f_nrf _ _) (f_frf _ _) q2088 (Or.inr ⟨rfl, rfl, rfl⟩) f_put0) dX28_init_19 h (fun σ12 h => ?_)
  refine am_aloadr_n (x := some a0) dX28_init_22 rfl rfl ?_
  refine am_iload_n (x := a3) dX28_init_23 rfl rfl ?_
  refine fx_p (k := 2) (v := .int a3) (f_putC inf_X28 (by decide) rfl rfl q2087 (Or.inr ⟨rfl, rfl, rfl⟩) f_put0) dX28_init_24 h (fun σ13 h => ?_)
  exact am_vret rfl dX28_init_27 h
theorem W_X29_makes_f {G : am_G} {d : Nat} {a0 : Nat} {a1 : Option Nat} {a2 : Int32} {σ : am_S} {Q : am_S → Prop} {E : Nat → am_S → Prop} (h : f_gi σ (some a0) [26] 0 (fun v1 => f_o σ (some a0) [26] (fun b => W_X27_needed G d b a1 v1 a2 σ (fun v2 σ3 => f_p σ3 v2 [8] 2 (.int 1) (fun σ6 => B_X29_makes_19 G (d + 1) a0 a2 v2 0 σ6 Q E)) E))) : W_X29_makes G (d + 1) a0 a1 a2 σ Q E := by
  unfold W_X29_makes
  refine am_aloadr_n (x := some a0) dX29_makes_0 rfl rfl ?_
  refine am_aloadr_n (x := a1) dX29_makes_1 rfl rfl ?_
  refine am_aloadr_n (x := some a0) dX29_makes_2 rfl rfl ?_
  refine fx_gi (k := 0) (f_fldC (ref := "PondHouse$Edits") inf_X29 (by decide) q2096 (Or.inr ⟨rfl, q2097⟩) f_fld0) dX29_makes_3 h (fun v1 h => ?_)
  refine am_iload_n (x := a2) dX29_makes_6 rfl rfl ?_
  refine fx_callVO (Mc := m_X27_needed) (as := [va_rf a1, .int v1, .int a2]) (x := ⟨"PondHouse$Edits", "needed", "(LPondHouse$Row;II)LPondHouse$Draft;"⟩) (owner := "PondHouse$Change") (r := (some a0)) inf_X29 q803 q746 q747 q804 rfl ⟨by decide, by decide⟩ bm_X27_needed q802 q746 (Nat.le_of_ble_eq_true rfl) dX29_makes_7 h (fun b h => mt_X27_needed (fx_k2r h (fun v2 σ3 h => ?_) (fun q σ' h => am_xout (by decide +kernel) h)))
  refine am_astore_n (x := v2) (L' := [(6, va_rf v2), (0, va_rf (some a0)), (2, va_rf a1), (4, .int a2)]) dX29_makes_10 rfl (Nat.le_of_ble_eq_true rfl) rfl ?_
  refine am_aloadr_n (x := v2) dX29_makes_11 rfl rfl ?_
  refine am_iconst (v := 1) dX29_makes_12 (by decide) ?_
  refine fx_p (k := 2) (v := .int 1) (f_putC inf_X8 (by decide) rfl rfl q569 (Or.inl rfl) f_put0) dX29_makes_13 h (fun σ6 h => ?_)
  refine am_iconst (v := 0) dX29_makes_16 (by decide) ?_
  refine am_istore (L' := [(8, .int 0), (6, va_rf v2), (0, va_rf (some a0)), (2, va_rf a1), (4, .int a2)]) dX29_makes_17 (Nat.le_of_ble_eq_true rfl) rfl ?_
  exact am_lss h rfl
theorem B_X29_makes_19_f {G : am_G} {d : Nat} {a0 : Nat} {x2 : Int32} {x3 : Option Nat} {x4 : Int32} {σ : am_S} {Q : am_S → Prop} {E : Nat → am_S → Prop} (h : f_gr σ (some a0) [26] 2 (fun v1 => f_o σ v1 [7] (fun b => W_X7_size G d b σ (fun v2 σ3 => ((v2 ≤ x4 → Q σ3) ∧ (¬ v2 ≤ x4 → f_gr σ3 (some a0) [26] 2 (fun v6 => f_o σ3 v6 [7] (fun b => W_X7_get G d b x4 σ3 (fun v7 σ8 => f_k σ8 v7 [27] (f_gr σ8 v7 [27] 0 (fun v11 => ((v11 = none → f_gi σ8 v7 [27] 2 (fun v12 => ((v12 = (-1) → f_gr σ8 v7 [27] 3 (fun v13 => ((¬ v13 = none → B_X29_makes_19 G (d + 1) a0 x2 x3 (x4 + 1) σ8 Q E) ∧ (v13 = none → f_gi σ8 v7 [27] 1 (fun v14 => f_o σ8 x3 [8] (fun b => W_X8_drops G d b v14 σ8 (fun v15 σ16 => ((¬ v15 = 0 → B_X29_makes_19 G (d + 1) a0 x2 x3 (x4 + 1) σ16 Q E) ∧ (v15 = 0 → f_gr σ16 (some a0) [26] 3 (fun v19 => f_o σ16 v19 [0] (fun b => W_X0_refuses G d b 4 x2 (-1) σ16 (fun v20 σ21 => f_o σ21 v20 [5] (fun q => E q σ21))))))))))))) ∧ (¬ v12 = (-1) → f_o σ8 (some a0) [26] (fun b => W_X29_renames G d b x3 v7 x2 σ8 (fun σ25 => B_X29_makes_19 G (d + 1) a0 x2 x3 (x4 + 1) σ25 Q E) E))))) ∧ (¬ v11 = none → f_gr σ8 v7 [27] 0 (fun v28 => f_o σ8 (some a0) [26] (fun b => W_X27_adds G d b x3 v28 x2 σ8 (fun σ30 => B_X29_makes_19 G (d + 1) a0 x2 x3 (x4 + 1) σ30 Q E) E))))))))))))))) : B_X29_makes_19 G (d + 1) a0 x2 x3 x4 σ Q E := by
  unfold B_X29_makes_19
  refine am_iload (x := x4) dX29_makes_19 rfl ?_
  refine am_aloadr_n (x := some a0) dX29_makes_21 rfl rfl ?_
  refine fx_gr (k := 2) (f_fldC (ref := "PondHouse$Edits") inf_X29 (by decide) q2127 (Or.inl rfl) f_fld0) dX29_makes_22 h (fun v1 h => ?_)
  refine fx_callV (Mc := m_X7_size) (as := []) (cs := [7]) (r := v1) (f_clsC inf_X7 q711 f_cls0) bm_X7_size q805 q710 (Nat.le_of_ble_eq_true rfl) dX29_makes_25 h (fun b h => mt_X7_size (fx_k2i h (fun v2 σ3 h => ?_) (fun q σ' h => h.elim)))
  refine am_icmp_ge (tgt := 124) dX29_makes_28 (by decide) (fun c => ?_) (fun c => ?_)
  · have h := h.1 c
    exact am_vret rfl dX29_makes_124 h
  · have h := h.2 c
    refine am_aloadr_n (x := some a0) dX29_makes_31 rfl rfl ?_
    refine fx_gr (k := 2) (f_fldC (ref := "PondHouse$Edits") inf_X29 (by decide) q2127 (Or.inl rfl) f_fld0) dX29_makes_32 h (fun v6 h => ?_)
    refine am_iload (x := x4) dX29_makes_35 rfl ?_
    refine fx_callV (Mc := m_X7_get) (as := [.int x4]) (cs := [7]) (r := v6) (f_clsC inf_X7 q719 f_cls0) bm_X7_get q806 q718 (Nat.le_of_ble_eq_true rfl) dX29_makes_37 h (fun b h => mt_X7_get (fx_k2r h (fun v7 σ8 h => ?_) (fun q σ' h => h.elim)))
    refine fx_cc (cs := [27]) (f_clsC inf_X30 (Or.inl rfl) f_cls0) q807 dX29_makes_40 h (fun h => ?_)
    refine am_astore (x := v7) (L' := [(10, va_rf v7), (0, va_rf (some a0)), (4, .int x2), (6, va_rf x3), (8, .int x4)]) dX29_makes_43 (Nat.le_of_ble_eq_true rfl) rfl ?_
    refine am_aloadr (x := v7) dX29_makes_45 rfl ?_
    refine fx_gr (k := 0) (f_fldC (ref := "PondHouse$Edit") inf_X30 (by decide) q2144 (Or.inl rfl) f_fld0) dX29_makes_47 h (fun v11 h => ?_)
    refine am_ifnullr (tgt := 67) dX29_makes_50 (by decide) (fun c => ?_) (fun c => ?_)
    · have h := h.1 c
      refine am_aloadr (x := v7) dX29_makes_67 rfl ?_
      refine fx_gi (k := 2) (f_fldC (ref := "PondHouse$Edit") inf_X30 (by decide) q2148 (Or.inl rfl) f_fld0) dX29_makes_69 h (fun v12 h => ?_)
      refine am_iconst (v := (-1)) dX29_makes_72 (by decide) ?_
      refine am_icmp_eq (tgt := 87) dX29_makes_73 (by decide) (fun c => ?_) (fun c => ?_)
      · have h := h.1 c
        refine am_aloadr (x := v7) dX29_makes_87 rfl ?_
        refine fx_gr (k := 3) (f_fldC (ref := "PondHouse$Edit") inf_X30 (by decide) q2150 (Or.inl rfl) f_fld0) dX29_makes_89 h (fun v13 h => ?_)
        refine am_ifnonnullr (tgt := 118) dX29_makes_92 (by decide) (fun c => ?_) (fun c => ?_)
        · have h := h.1 c
          refine am_iinc (x := x4) (v := (x4 + 1)) (L' := [(8, .int (x4 + 1)), (10, va_rf v7), (0, va_rf (some a0)), (4, .int x2), (6, va_rf x3)]) dX29_makes_118 rfl rfl (Nat.le_of_ble_eq_true rfl) rfl ?_
          refine am_goto (tgt := 19) dX29_makes_121 (by decide) ?_
          exact am_lss h rfl
        · have h := h.2 c
          refine am_aloadr_n (x := x3) dX29_makes_95 rfl rfl ?_
          refine am_aloadr (x := v7) dX29_makes_96 rfl ?_
          refine fx_gi (k := 1) (f_fldC (ref := "PondHouse$Edit") inf_X30 (by decide) q2146 (Or.inl rfl) f_fld0) dX29_makes_98 h (fun v14 h => ?_)
          refine fx_callV (Mc := m_X8_drops) (as := [.int v14]) (cs := [8]) (r := x3) (f_clsC inf_X8 q821 f_cls0) bm_X8_drops q819 q820 (Nat.le_of_ble_eq_true rfl) dX29_makes_101 h (fun b h => mt_X8_drops (fx_k2i h (fun v15 σ16 h => ?_) (fun q σ' h => h.elim)))
          refine am_if_ne (tgt := 118) dX29_makes_104 (by decide) (fun c => ?_) (fun c => ?_)
          · have h := h.1 c
            refine am_iinc (x := x4) (v := (x4 + 1)) (L' := [(8, .int (x4 + 1)), (10, va_rf v7), (0, va_rf (some a0)), (4, .int x2), (6, va_rf x3)]) dX29_makes_118 rfl rfl (Nat.le_of_ble_eq_true rfl) rfl ?_
            refine am_goto (tgt := 19) dX29_makes_121 (by decide) ?_
            exact am_lss h rfl
          · have h := h.2 c
            refine am_aloadr_n (x := some a0) dX29_makes_107 rfl rfl ?_
            refine fx_gr (k := 3) (f_fldC (ref := "PondHouse$Edits") inf_X29 (by decide) q2129 (Or.inl rfl) f_fld0) dX29_makes_108 h (fun v19 h => ?_)
            refine am_iconst (v := 4) dX29_makes_111 (by decide) ?_
            refine am_iload_n (x := x2) dX29_makes_112 rfl rfl ?_
            refine am_iconst (v := (-1)) dX29_makes_113 (by decide) ?_
            refine fx_callVN (Mc := m_X0_refuses) (as := [.int 4, .int x2, .int (-1)]) (cs := [0]) (r := v19) (f_clsC inf_X0 qs23 f_cls0) bm_X0_refuses q817 q753 (Nat.le_of_ble_eq_true rfl) dX29_makes_114 h (fun b h => mt_X0_refuses (fx_k2r h (fun v20 σ21 h => ?_) (fun q σ' h => h.elim)))
            exact fx_throw (cs := [5]) dX29_makes_117 h (fun q h => am_xout (by decide +kernel) h)
      · have h := h.2 c
        refine am_aloadr_n (x := some a0) dX29_makes_76 rfl rfl ?_
        refine am_aloadr_n (x := x3) dX29_makes_77 rfl rfl ?_
        refine am_aloadr (x := v7) dX29_makes_78 rfl ?_
        refine am_iload_n (x := x2) dX29_makes_80 rfl rfl ?_
        refine fx_callV (Mc := m_X29_renames) (as := [va_rf x3, va_rf v7, .int x2]) (cs := [26]) (r := (some a0)) (f_clsC inf_X29 qs24 f_cls0) bm_X29_renames q811 q813 (Nat.le_of_ble_eq_true rfl) dX29_makes_81 h (fun b h => mt_X29_renames (fx_k2v h (fun σ25 h => ?_) (fun q σ' h => am_xout (by decide +kernel) h)))
        refine am_goto (tgt := 118) dX29_makes_84 (by decide) ?_
        refine am_iinc (x := x4) (v := (x4 + 1)) (L' := [(8, .int (x4 + 1)), (10, va_rf v7), (0, va_rf (some a0)), (4, .int x2), (6, va_rf x3)]) dX29_makes_118 rfl rfl (Nat.le_of_ble_eq_true rfl) rfl ?_
        refine am_goto (tgt := 19) dX29_makes_121 (by decide) ?_
        exact am_lss h rfl
    · have h := h.2 c
      refine am_aloadr_n (x := some a0) dX29_makes_53 rfl rfl ?_
      refine am_aloadr_n (x := x3) dX29_makes_54 rfl rfl ?_
      refine am_aloadr (x := v7) dX29_makes_55 rfl ?_
      refine fx_gr (k := 0) (f_fldC (ref := "PondHouse$Edit") inf_X30 (by decide) q2144 (Or.inl rfl) f_fld0) dX29_makes_57 h (fun v28 h => ?_)
      refine am_iload_n (x := x2) dX29_makes_60 rfl rfl ?_
      refine fx_callVO (Mc := m_X27_adds) (as := [va_rf x3, va_rf v28, .int x2]) (x := ⟨"PondHouse$Edits", "adds", "(LPondHouse$Draft;LPondHouse$Member;I)V"⟩) (owner := "PondHouse$Change") (r := (some a0)) inf_X29 q809 q773 q774 q810 rfl ⟨by decide, by decide⟩ bm_X27_adds q808 q773 (Nat.le_of_ble_eq_true rfl) dX29_makes_61 h (fun b h => mt_X27_adds (fx_k2v h (fun σ30 h => ?_) (fun q σ' h => am_xout (by decide +kernel) h)))
      refine am_goto (tgt := 118) dX29_makes_64 (by decide) ?_
      refine am_iinc (x := x4) (v := (x4 + 1)) (L' := [(8, .int (x4 + 1)), (10, va_rf v7), (0, va_rf (some a0)), (4, .int x2), (6, va_rf x3)]) dX29_makes_118 rfl rfl (Nat.le_of_ble_eq_true rfl) rfl ?_
      refine am_goto (tgt := 19) dX29_makes_121 (by decide) ?_
      exact am_lss h rfl
theorem W_X29_renames_f {G : am_G} {d : Nat} {a0 : Nat} {a1 : Option Nat} {a2 : Option Nat} {a3 : Int32} {σ : am_S} {Q : am_S → Prop} {E : Nat → am_S → Prop} (h : f_gi σ a2 [27] 1 (fun v1 => f_o σ a1 [8] (fun b => W_X8_field G d b v1 σ (fun v2 σ3 => ((¬ v2 = (-1) → f_gi σ3 a2 [27] 2 (fun v6 => f_o σ3 a1 [8] (fun b => W_X8_holds G d b v6 σ3 (fun v7 σ8 => ((v7 = 0 → f_gr σ8 a1 [8] 3 (fun v11 => f_gi σ8 a2 [27] 2 (fun v12 => f_si σ8 v11 0 v2 v12 (fun σ13 => Q σ13)))) ∧ (¬ v7 = 0 → f_gr σ8 (some a0) [26] 3 (fun v14 => f_o σ8 v14 [0] (fun b => W_X0_refuses G d b 3 a3 (-1) σ8 (fun v15 σ16 => f_o σ16 v15 [5] (fun q => E q σ16)))))))))) ∧ (v2 = (-1) → f_gr σ3 (some a0) [26] 3 (fun v19 => f_o σ3 v19 [0] (fun b => W_X0_refuses G d b 4 a3 (-1) σ3 (fun v20 σ21 => f_o σ21 v20 [5] (fun q => E q σ21)))))))))) : W_X29_renames G (d + 1) a0 a1 a2 a3 σ Q E := by
  unfold W_X29_renames
  refine am_aloadr_n (x := a1) dX29_renames_0 rfl rfl ?_
  refine am_aloadr_n (x := a2) dX29_renames_1 rfl rfl ?_
  refine fx_gi (k := 1) (f_fldC (ref := "PondHouse$Edit") inf_X30 (by decide) q2146 (Or.inl rfl) f_fld0) dX29_renames_2 h (fun v1 h => ?_)
  refine fx_callV (Mc := m_X8_field) (as := [.int v1]) (cs := [8]) (r := a1) (f_clsC inf_X8 q788 f_cls0) bm_X8_field q816 q787 (Nat.le_of_ble_eq_true rfl) dX29_renames_5 h (fun b h => mt_X8_field (fx_k2i h (fun v2 σ3 h => ?_) (fun q σ' h => h.elim)))
  refine am_istore (L' := [(8, .int v2), (0, va_rf (some a0)), (2, va_rf a1), (4, va_rf a2), (6, .int a3)]) dX29_renames_8 (Nat.le_of_ble_eq_true rfl) rfl ?_
  refine am_iload (x := v2) dX29_renames_10 rfl ?_
  refine am_iconst (v := (-1)) dX29_renames_12 (by decide) ?_
  refine am_icmp_ne (tgt := 27) dX29_renames_13 (by decide) (fun c => ?_) (fun c => ?_)
  · have h := h.1 c
    refine am_aloadr_n (x := a1) dX29_renames_27 rfl rfl ?_
    refine am_aloadr_n (x := a2) dX29_renames_28 rfl rfl ?_
    refine fx_gi (k := 2) (f_fldC (ref := "PondHouse$Edit") inf_X30 (by decide) q2148 (Or.inl rfl) f_fld0) dX29_renames_29 h (fun v6 h => ?_)
    refine fx_callV (Mc := m_X8_holds) (as := [.int v6]) (cs := [8]) (r := a1) (f_clsC inf_X8 q784 f_cls0) bm_X8_holds q818 q783 (Nat.le_of_ble_eq_true rfl) dX29_renames_32 h (fun b h => mt_X8_holds (fx_k2i h (fun v7 σ8 h => ?_) (fun q σ' h => h.elim)))
    refine am_if_eq (tgt := 49) dX29_renames_35 (by decide) (fun c => ?_) (fun c => ?_)
    · have h := h.1 c
      refine am_aloadr_n (x := a1) dX29_renames_49 rfl rfl ?_
      refine fx_gr (k := 3) (f_fldC (ref := "PondHouse$Draft") inf_X8 (by decide) q575 (Or.inl rfl) f_fld0) dX29_renames_50 h (fun v11 h => ?_)
      refine am_iload (x := v2) dX29_renames_53 rfl ?_
      refine am_aloadr_n (x := a2) dX29_renames_55 rfl rfl ?_
      refine fx_gi (k := 2) (f_fldC (ref := "PondHouse$Edit") inf_X30 (by decide) q2148 (Or.inl rfl) f_fld0) dX29_renames_56 h (fun v12 h => ?_)
      refine fx_si0 dX29_renames_59 h (fun σ13 h => ?_)
      exact am_vret rfl dX29_renames_60 h
    · have h := h.2 c
      refine am_aloadr_n (x := some a0) dX29_renames_38 rfl rfl ?_
      refine fx_gr (k := 3) (f_fldC (ref := "PondHouse$Edits") inf_X29 (by decide) q2129 (Or.inl rfl) f_fld0) dX29_renames_39 h (fun v14 h => ?_)
      refine am_iconst (v := 3) dX29_renames_42 (by decide) ?_
      refine am_iload_n (x := a3) dX29_renames_43 rfl rfl ?_
      refine am_iconst (v := (-1)) dX29_renames_44 (by decide) ?_
      refine fx_callVN (Mc := m_X0_refuses) (as := [.int 3, .int a3, .int (-1)]) (cs := [0]) (r := v14) (f_clsC inf_X0 qs23 f_cls0) bm_X0_refuses q817 q753 (Nat.le_of_ble_eq_true rfl) dX29_renames_45 h (fun b h => mt_X0_refuses (fx_k2r h (fun v15 σ16 h => ?_) (fun q σ' h => h.elim)))
      exact fx_throw (cs := [5]) dX29_renames_48 h (fun q h => am_xout (by decide +kernel) h)
  · have h := h.2 c
    refine am_aloadr_n (x := some a0) dX29_renames_16 rfl rfl ?_
    refine fx_gr (k := 3) (f_fldC (ref := "PondHouse$Edits") inf_X29 (by decide) q2129 (Or.inl rfl) f_fld0) dX29_renames_17 h (fun v19 h => ?_)
    refine am_iconst (v := 4) dX29_renames_20 (by decide) ?_
    refine am_iload_n (x := a3) dX29_renames_21 rfl rfl ?_
    refine am_iconst (v := (-1)) dX29_renames_22 (by decide) ?_
    refine fx_callVN (Mc := m_X0_refuses) (as := [.int 4, .int a3, .int (-1)]) (cs := [0]) (r := v19) (f_clsC inf_X0 qs23 f_cls0) bm_X0_refuses q817 q753 (Nat.le_of_ble_eq_true rfl) dX29_renames_23 h (fun b h => mt_X0_refuses (fx_k2r h (fun v20 σ21 h => ?_) (fun q σ' h => h.elim)))
    exact fx_throw (cs := [5]) dX29_renames_26 h (fun q h => am_xout (by decide +kernel) h)
theorem W_X29_rule_f {G : am_G} {d : Nat} {a0 : Nat} {a1 : Int32} {σ : am_S} {Q : Option Nat → am_S → Prop} (h : B_X29_rule_4 G (d + 1) a0 a1 none 0 σ Q) : W_X29_rule G (d + 1) a0 a1 σ Q := by
  unfold W_X29_rule
  refine am_null dX29_rule_0 ?_
  refine am_astore_n (x := none) (L' := [(4, va_rf none), (0, va_rf (some a0)), (2, .int a1)]) dX29_rule_1 rfl (Nat.le_of_ble_eq_true rfl) rfl ?_
  refine am_iconst (v := 0) dX29_rule_2 (by decide) ?_
  refine am_istore_n (L' := [(6, .int 0), (4, va_rf none), (0, va_rf (some a0)), (2, .int a1)]) dX29_rule_3 rfl (Nat.le_of_ble_eq_true rfl) rfl ?_
  exact am_lss h rfl
theorem B_X29_rule_4_f {G : am_G} {d : Nat} {a0 : Nat} {x1 : Int32} {x2 : Option Nat} {x3 : Int32} {σ : am_S} {Q : Option Nat → am_S → Prop} (h : f_gr σ (some a0) [26] 2 (fun v1 => f_o σ v1 [7] (fun b => W_X7_size G d b σ (fun v2 σ3 => ((v2 ≤ x3 → Q x2 σ3) ∧ (¬ v2 ≤ x3 → f_gr σ3 (some a0) [26] 2 (fun v6 => f_o σ3 v6 [7] (fun b => W_X7_get G d b x3 σ3 (fun v7 σ8 => f_k σ8 v7 [27] (f_gr σ8 v7 [27] 3 (fun v11 => ((v11 = none → B_X29_rule_4 G (d + 1) a0 x1 x2 (x3 + 1) σ8 Q) ∧ (¬ v11 = none → f_gr σ8 (some a0) [26] 2 (fun v12 => f_o σ8 v12 [7] (fun b => W_X7_get G d b x3 σ8 (fun v13 σ14 => f_k σ14 v13 [27] (f_gi σ14 v13 [27] 1 (fun v17 => ((¬ v17 = x1 → B_X29_rule_4 G (d + 1) a0 x1 x2 (x3 + 1) σ14 Q) ∧ (v17 = x1 → f_gr σ14 (some a0) [26] 2 (fun v18 => f_o σ14 v18 [7] (fun b => W_X7_get G d b x3 σ14 (fun v19 σ20 => f_k σ20 v19 [27] (f_gr σ20 v19 [27] 3 (fun v23 => B_X29_rule_4 G (d + 1) a0 x1 v23 (x3 + 1) σ20 Q))))))))))))))))))))))))) : B_X29_rule_4 G (d + 1) a0 x1 x2 x3 σ Q := by
  unfold B_X29_rule_4
  refine am_iload_n (x := x3) dX29_rule_4 rfl rfl ?_
  refine am_aloadr_n (x := some a0) dX29_rule_5 rfl rfl ?_
  refine fx_gr (k := 2) (f_fldC (ref := "PondHouse$Edits") inf_X29 (by decide) q2127 (Or.inl rfl) f_fld0) dX29_rule_6 h (fun v1 h => ?_)
  refine fx_callV (Mc := m_X7_size) (as := []) (cs := [7]) (r := v1) (f_clsC inf_X7 q711 f_cls0) bm_X7_size q805 q710 (Nat.le_of_ble_eq_true rfl) dX29_rule_9 h (fun b h => mt_X7_size (fx_k2i h (fun v2 σ3 h => ?_) (fun q σ' h => h.elim)))
  refine am_icmp_ge (tgt := 71) dX29_rule_12 (by decide) (fun c => ?_) (fun c => ?_)
  · have h := h.1 c
    refine am_aloadr_n (x := x2) dX29_rule_71 rfl rfl ?_
    exact fx_aret rfl rfl dX29_rule_72 h
  · have h := h.2 c
    refine am_aloadr_n (x := some a0) dX29_rule_15 rfl rfl ?_
    refine fx_gr (k := 2) (f_fldC (ref := "PondHouse$Edits") inf_X29 (by decide) q2127 (Or.inl rfl) f_fld0) dX29_rule_16 h (fun v6 h => ?_)
    refine am_iload_n (x := x3) dX29_rule_19 rfl rfl ?_
    refine fx_callV (Mc := m_X7_get) (as := [.int x3]) (cs := [7]) (r := v6) (f_clsC inf_X7 q719 f_cls0) bm_X7_get q806 q718 (Nat.le_of_ble_eq_true rfl) dX29_rule_20 h (fun b h => mt_X7_get (fx_k2r h (fun v7 σ8 h => ?_) (fun q σ' h => h.elim)))
    refine fx_cc (cs := [27]) (f_clsC inf_X30 (Or.inl rfl) f_cls0) q807 dX29_rule_23 h (fun h => ?_)
    refine fx_gr (k := 3) (f_fldC (ref := "PondHouse$Edit") inf_X30 (by decide) q2150 (Or.inl rfl) f_fld0) dX29_rule_26 h (fun v11 h => ?_)
    refine am_ifnullr (tgt := 65) dX29_rule_29 (by decide) (fun c => ?_) (fun c => ?_)
    · have h := h.1 c
      refine am_iinc (x := x3) (v := (x3 + 1)) (L' := [(6, .int (x3 + 1)), (0, va_rf (some a0)), (2, .int x1), (4, va_rf x2)]) dX29_rule_65 rfl rfl (Nat.le_of_ble_eq_true rfl) rfl ?_
      refine am_goto (tgt := 4) dX29_rule_68 (by decide) ?_
      exact am_lss h rfl
    · have h := h.2 c
      refine am_aloadr_n (x := some a0) dX29_rule_32 rfl rfl ?_
      refine fx_gr (k := 2) (f_fldC (ref := "PondHouse$Edits") inf_X29 (by decide) q2127 (Or.inl rfl) f_fld0) dX29_rule_33 h (fun v12 h => ?_)
      refine am_iload_n (x := x3) dX29_rule_36 rfl rfl ?_
      refine fx_callV (Mc := m_X7_get) (as := [.int x3]) (cs := [7]) (r := v12) (f_clsC inf_X7 q719 f_cls0) bm_X7_get q806 q718 (Nat.le_of_ble_eq_true rfl) dX29_rule_37 h (fun b h => mt_X7_get (fx_k2r h (fun v13 σ14 h => ?_) (fun q σ' h => h.elim)))
      refine fx_cc (cs := [27]) (f_clsC inf_X30 (Or.inl rfl) f_cls0) q807 dX29_rule_40 h (fun h => ?_)
      refine fx_gi (k := 1) (f_fldC (ref := "PondHouse$Edit") inf_X30 (by decide) q2146 (Or.inl rfl) f_fld0) dX29_rule_43 h (fun v17 h => ?_)
      refine am_iload_n (x := x1) dX29_rule_46 rfl rfl ?_
      refine am_icmp_ne (tgt := 65) dX29_rule_47 (by decide) (fun c => ?_) (fun c => ?_)
      · have h := h.1 c
        refine am_iinc (x := x3) (v := (x3 + 1)) (L' := [(6, .int (x3 + 1)), (0, va_rf (some a0)), (2, .int x1), (4, va_rf x2)]) dX29_rule_65 rfl rfl (Nat.le_of_ble_eq_true rfl) rfl ?_
        refine am_goto (tgt := 4) dX29_rule_68 (by decide) ?_
        exact am_lss h rfl
      · have h := h.2 c
        refine am_aloadr_n (x := some a0) dX29_rule_50 rfl rfl ?_
        refine fx_gr (k := 2) (f_fldC (ref := "PondHouse$Edits") inf_X29 (by decide) q2127 (Or.inl rfl) f_fld0) dX29_rule_51 h (fun v18 h => ?_)
        refine am_iload_n (x := x3) dX29_rule_54 rfl rfl ?_
        refine fx_callV (Mc := m_X7_get) (as := [.int x3]) (cs := [7]) (r := v18) (f_clsC inf_X7 q719 f_cls0) bm_X7_get q806 q718 (Nat.le_of_ble_eq_true rfl) dX29_rule_55 h (fun b h => mt_X7_get (fx_k2r h (fun v19 σ20 h => ?_) (fun q σ' h => h.elim)))
        refine fx_cc (cs := [27]) (f_clsC inf_X30 (Or.inl rfl) f_cls0) q807 dX29_rule_58 h (fun h => ?_)
        refine fx_gr (k := 3) (f_fldC (ref := "PondHouse$Edit") inf_X30 (by decide) q2150 (Or.inl rfl) f_fld0) dX29_rule_61 h (fun v23 h => ?_)
        refine am_astore_n (x := v23) (L' := [(4, va_rf v23), (0, va_rf (some a0)), (2, .int x1), (6, .int x3)]) dX29_rule_64 rfl (Nat.le_of_ble_eq_true rfl) rfl ?_
        refine am_iinc (x := x3) (v := (x3 + 1)) (L' := [(6, .int (x3 + 1)), (4, va_rf v23), (0, va_rf (some a0)), (2, .int x1)]) dX29_rule_65 rfl rfl (Nat.le_of_ble_eq_true rfl) rfl ?_
        refine am_goto (tgt := 4) dX29_rule_68 (by decide) ?_
        exact am_lss h rfl
