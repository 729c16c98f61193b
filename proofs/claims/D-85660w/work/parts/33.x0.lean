set_option maxRecDepth 100000
/-! ===== PondHouse: what its blocks do (printed by tools/gx.py) ===== -/
theorem W_J0_init_2_f {G : am_G} {d : Nat} {a0 : Nat} {a1 : Option Nat} {a2 : Option Nat} {a3 : Int32} {a4 : Int32} {σ : am_S} {Q : am_S → Prop} (h : f_p σ (some a0) [2, 3, 5] 0 (va_rf (some a0)) (fun σ1 => f_str G 2 (fun v2 => f_p σ1 (some a0) [2, 3, 5] 1 (va_rf v2) (fun σ3 => f_str G 3 (fun v4 => f_p σ3 (some a0) [2, 3, 5] 2 (va_rf v4) (fun σ5 => ((a4 = 0 → f_p σ5 (some a0) [2, 3, 5] 1 (va_rf none) (fun σ6 => f_p σ6 (some a0) [2, 3, 5] 3 (va_rf a1) (fun σ7 => f_p σ7 (some a0) [2, 3, 5] 0 (va_rf a2) (fun σ8 => ((¬ a3 = 0 → Q σ8) ∧ (a3 = 0 → f_p σ8 (some a0) [2, 3, 5] 2 (va_rf none) (fun σ9 => Q σ9))))))) ∧ (¬ a4 = 0 → False)))))))) : W_J0_init_2 G (d + 1) a0 a1 a2 a3 a4 σ Q := by
  unfold W_J0_init_2
  refine am_aloadr_n (x := some a0) dJ0_init_2_0 rfl rfl ?_
  refine am_objInit q1107 q304 q305 (Nat.le_of_ble_eq_true rfl) dJ0_init_2_1 ?_
  refine am_aloadr_n (x := some a0) dJ0_init_2_4 rfl rfl ?_
  refine am_aloadr_n (x := some a0) dJ0_init_2_5 rfl rfl ?_
  refine fx_p (k := 0) (v := va_rf (some a0)) (f_putC inf_X2 (by decide) (f_nrf _ _) (f_frf _ _) q1136 (Or.inl rfl) (f_putC inf_X3 (by decide) (f_nrf _ _) (f_frf _ _) q1136 (Or.inl rfl) (f_putC inf_X5 (by decide) (f_nrf _ _) (f_frf _ _) q1136 (Or.inl rfl) f_put0))) dJ0_init_2_6 h (fun σ1 h => ?_)
  refine am_aloadr_n (x := some a0) dJ0_init_2_9 rfl rfl ?_
  refine fx_str (i := 2) rfl q1108 dJ0_init_2_10 h (fun v2 h => ?_)
  refine fx_p (k := 1) (v := va_rf v2) (f_putC inf_X2 (by decide) (f_nra _ _) (f_fra _ _) q1137 (Or.inl rfl) (f_putC inf_X3 (by decide) (f_nra _ _) (f_fra _ _) q1137 (Or.inl rfl) (f_putC inf_X5 (by decide) (f_nra _ _) (f_fra _ _) q1137 (Or.inl rfl) f_put0))) dJ0_init_2_13 h (fun σ3 h => ?_)
  refine am_aloadr_n (x := some a0) dJ0_init_2_16 rfl rfl ?_
  refine fx_str (i := 3) rfl q1110 dJ0_init_2_17 h (fun v4 h => ?_)
  refine fx_p (k := 2) (v := va_rf v4) (f_putC inf_X2 (by decide) (f_nrf _ _) (f_frf _ _) q1138 (Or.inl rfl) (f_putC inf_X3 (by decide) (f_nrf _ _) (f_frf _ _) q1138 (Or.inl rfl) (f_putC inf_X5 (by decide) (f_nrf _ _) (f_frf _ _) q1138 (Or.inl rfl) f_put0))) dJ0_init_2_20 h (fun σ5 h => ?_)
  refine am_iload (x := a4) dJ0_init_2_23 rfl ?_
  refine am_if_eq (tgt := 36) dJ0_init_2_25 (by decide) (fun c => ?_) (fun c => ?_)
  · have h := h.1 c
    refine am_aloadr_n (x := some a0) dJ0_init_2_36 rfl rfl ?_
    refine am_null dJ0_init_2_37 ?_
    refine fx_p (k := 1) (v := va_rf none) (f_putC inf_X2 (by decide) (f_nra _ _) (f_fra _ _) q1137 (Or.inl rfl) (f_putC inf_X3 (by decide) (f_nra _ _) (f_fra _ _) q1137 (Or.inl rfl) (f_putC inf_X5 (by decide) (f_nra _ _) (f_fra _ _) q1137 (Or.inl rfl) f_put0))) dJ0_init_2_38 h (fun σ6 h => ?_)
    refine am_aloadr_n (x := some a0) dJ0_init_2_41 rfl rfl ?_
    refine am_aloadr_n (x := a1) dJ0_init_2_42 rfl rfl ?_
    refine fx_p (k := 3) (v := va_rf a1) (f_putC inf_X2 (by decide) (f_nrf _ _) (f_frf _ _) q1135 (Or.inl rfl) (f_putC inf_X3 (by decide) (f_nrf _ _) (f_frf _ _) q1135 (Or.inl rfl) (f_putC inf_X5 (by decide) (f_nrf _ _) (f_frf _ _) q1135 (Or.inl rfl) f_put0))) dJ0_init_2_43 h (fun σ7 h => ?_)
    refine am_aloadr_n (x := some a0) dJ0_init_2_46 rfl rfl ?_
    refine am_aloadr_n (x := a2) dJ0_init_2_47 rfl rfl ?_
    refine fx_p (k := 0) (v := va_rf a2) (f_putC inf_X2 (by decide) (f_nrf _ _) (f_frf _ _) q1136 (Or.inl rfl) (f_putC inf_X3 (by decide) (f_nrf _ _) (f_frf _ _) q1136 (Or.inl rfl) (f_putC inf_X5 (by decide) (f_nrf _ _) (f_frf _ _) q1136 (Or.inl rfl) f_put0))) dJ0_init_2_48 h (fun σ8 h => ?_)
    refine am_iload_n (x := a3) dJ0_init_2_51 rfl rfl ?_
    refine am_if_ne (tgt := 60) dJ0_init_2_52 (by decide) (fun c => ?_) (fun c => ?_)
    · have h := h.1 c
      exact am_vret rfl dJ0_init_2_60 h
    · have h := h.2 c
      refine am_aloadr_n (x := some a0) dJ0_init_2_55 rfl rfl ?_
      refine am_null dJ0_init_2_56 ?_
      refine fx_p (k := 2) (v := va_rf none) (f_putC inf_X2 (by decide) (f_nrf _ _) (f_frf _ _) q1138 (Or.inl rfl) (f_putC inf_X3 (by decide) (f_nrf _ _) (f_frf _ _) q1138 (Or.inl rfl) (f_putC inf_X5 (by decide) (f_nrf _ _) (f_frf _ _) q1138 (Or.inl rfl) f_put0))) dJ0_init_2_57 h (fun σ9 h => ?_)
      exact am_vret rfl dJ0_init_2_60 h
  · have h := h.2 c
    refine am_aloadr_n (x := some a0) dJ0_init_2_28 rfl rfl ?_
    exact h.elim
theorem W_J1_init_f {G : am_G} {d : Nat} {a0 : Nat} {a1 : Option Nat} {a2 : Option Nat} {a3 : Int32} {a4 : Int32} {σ : am_S} {Q : am_S → Prop} (h : W_J0_init_2 G d a0 a1 a2 a3 a4 σ (fun σ2 => Q σ2)) : W_J1_init G (d + 1) a0 a1 a2 a3 a4 σ Q := by
  unfold W_J1_init
  refine am_aloadr_n (x := some a0) dJ1_init_0 rfl rfl ?_
  refine am_aloadr_n (x := a1) dJ1_init_1 rfl rfl ?_
  refine am_aloadr_n (x := a2) dJ1_init_2 rfl rfl ?_
  refine am_iload_n (x := a3) dJ1_init_3 rfl rfl ?_
  refine am_iload (x := a4) dJ1_init_4 rfl ?_
  refine fx_callI (Mc := m_J0_init_2) (as := [va_rf a1, va_rf a2, .int a3, .int a4]) bm_J0_init_2 q1129 q1130 rfl rfl (Nat.le_of_ble_eq_true rfl) dJ1_init_6 (mt_J0_init_2 (fx_k2v h (fun σ2 h => ?_) (fun q σ' h => h.elim)))
  exact am_vret rfl dJ1_init_9 h
theorem W_J10_checkIndex_f {G : am_G} {d : Nat} {a1 : Int32} {a2 : Int32} {a3 : Option Nat} {σ : am_S} {Q : Int32 → am_S → Prop} (h : ((a1 < 0 → False) ∧ (¬ a1 < 0 → ((a1 < a2 → Q a1 σ) ∧ (¬ a1 < a2 → False))))) : W_J10_checkIndex G (d + 1) a1 a2 a3 σ Q := by
  unfold W_J10_checkIndex
  refine am_iload_n (x := a1) dJ10_checkIndex_0 rfl rfl ?_
  refine am_if_lt (tgt := 9) dJ10_checkIndex_1 (by decide) (fun c => ?_) (fun c => ?_)
  · have h := h.1 c
    refine am_aloadr_n (x := a3) dJ10_checkIndex_9 rfl rfl ?_
    refine am_iload_n (x := a1) dJ10_checkIndex_10 rfl rfl ?_
    refine am_iload_n (x := a2) dJ10_checkIndex_11 rfl rfl ?_
    exact h.elim
  · have h := h.2 c
    refine am_iload_n (x := a1) dJ10_checkIndex_4 rfl rfl ?_
    refine am_iload_n (x := a2) dJ10_checkIndex_5 rfl rfl ?_
    refine am_icmp_lt (tgt := 16) dJ10_checkIndex_6 (by decide) (fun c => ?_) (fun c => ?_)
    · have h := h.1 c
      refine am_iload_n (x := a1) dJ10_checkIndex_16 rfl rfl ?_
      exact am_iret rfl dJ10_checkIndex_17 h
    · have h := h.2 c
      refine am_aloadr_n (x := a3) dJ10_checkIndex_9 rfl rfl ?_
      refine am_iload_n (x := a1) dJ10_checkIndex_10 rfl rfl ?_
      refine am_iload_n (x := a2) dJ10_checkIndex_11 rfl rfl ?_
      exact h.elim
theorem W_J12_init_f {G : am_G} {d : Nat} {a0 : Nat} {σ : am_S} {Q : am_S → Prop} (h : Q σ) : W_J12_init G (d + 1) a0 σ Q := by
  unfold W_J12_init
  refine am_aloadr_n (x := some a0) dJ12_init_0 rfl rfl ?_
  refine am_objInit q531 q304 q305 (Nat.le_of_ble_eq_true rfl) dJ12_init_1 ?_
  exact am_vret rfl dJ12_init_4 h
theorem W_J13_init_f {G : am_G} {d : Nat} {a0 : Nat} {σ : am_S} {Q : am_S → Prop} (h : W_J12_init G d a0 σ (fun σ2 => f_p σ2 (some a0) [33] 0 (.int 0) (fun σ5 => Q σ5))) : W_J13_init G (d + 1) a0 σ Q := by
  unfold W_J13_init
  refine am_aloadr_n (x := some a0) dJ13_init_0 rfl rfl ?_
  refine fx_callI (Mc := m_J12_init) (as := []) bm_J12_init q528 q529 rfl rfl (Nat.le_of_ble_eq_true rfl) dJ13_init_1 (mt_J12_init (fx_k2v h (fun σ2 h => ?_) (fun q σ' h => h.elim)))
  refine am_aloadr_n (x := some a0) dJ13_init_4 rfl rfl ?_
  refine am_iconst (v := 0) dJ13_init_5 (by decide) ?_
  refine fx_p (k := 0) (v := .int 0) (f_putC inf_J14 (by decide) rfl rfl q536 (Or.inl rfl) f_put0) dJ13_init_6 h (fun σ5 h => ?_)
  exact am_vret rfl dJ13_init_9 h
theorem W_J14_init_f {G : am_G} {d : Nat} {a0 : Nat} {σ : am_S} {Q : am_S → Prop} (h : W_J13_init G d a0 σ (fun σ2 => f_str G 1 (fun v5 => f_p σ2 (some a0) [33] 1 (va_rf v5) (fun σ6 => Q σ6)))) : W_J14_init G (d + 1) a0 σ Q := by
  unfold W_J14_init
  refine am_aloadr_n (x := some a0) dJ14_init_0 rfl rfl ?_
  refine fx_callI (Mc := m_J13_init) (as := []) bm_J13_init q525 q526 rfl rfl (Nat.le_of_ble_eq_true rfl) dJ14_init_1 (mt_J13_init (fx_k2v h (fun σ2 h => ?_) (fun q σ' h => h.elim)))
  refine am_aloadr_n (x := some a0) dJ14_init_4 rfl rfl ?_
  refine fx_str (i := 1) rfl q532 dJ14_init_5 h (fun v5 h => ?_)
  refine fx_p (k := 1) (v := va_rf v5) (f_putC inf_J14 (by decide) (f_nra _ _) (f_fra _ _) q534 (Or.inl rfl) f_put0) dJ14_init_8 h (fun σ6 h => ?_)
  exact am_vret rfl dJ14_init_11 h
theorem W_J14_add_f {G : am_G} {d : Nat} {a0 : Nat} {a1 : Option Nat} {σ : am_S} {Q : Int32 → am_S → Prop} (h : f_gi σ (some a0) [33] 0 (fun v1 => f_p σ (some a0) [33] 0 (.int (v1 + 1)) (fun σ2 => f_gr σ2 (some a0) [33] 1 (fun v3 => f_gi σ2 (some a0) [33] 2 (fun v4 => f_o σ2 (some a0) [33] (fun b => W_J14_add_2 G d b a1 v3 v4 σ2 (fun σ6 => Q 1 σ6))))))) : W_J14_add G (d + 1) a0 a1 σ Q := by
  unfold W_J14_add
  refine am_aloadr_n (x := some a0) dJ14_add_0 rfl rfl ?_
  refine am_dup dJ14_add_1 (am_rf_cat _) ?_
  refine fx_gi (k := 0) (f_fldC (ref := "java/util/ArrayList") inf_J14 (by decide) q537 (Or.inr ⟨rfl, q538⟩) f_fld0) dJ14_add_2 h (fun v1 h => ?_)
  refine am_iconst (v := 1) dJ14_add_5 (by decide) ?_
  refine am_iadd dJ14_add_6 ?_
  refine fx_pU (k := 0) (v := .int (v1 + 1)) inf_J14 (by decide) q537 q538 rfl rfl rfl dJ14_add_7 h (fun σ2 h => ?_)
  refine am_aloadr_n (x := some a0) dJ14_add_10 rfl rfl ?_
  refine am_aloadr_n (x := a1) dJ14_add_11 rfl rfl ?_
  refine am_aloadr_n (x := some a0) dJ14_add_12 rfl rfl ?_
  refine fx_gr (k := 1) (f_fldC (ref := "java/util/ArrayList") inf_J14 (by decide) q534 (Or.inl rfl) f_fld0) dJ14_add_13 h (fun v3 h => ?_)
  refine am_aloadr_n (x := some a0) dJ14_add_16 rfl rfl ?_
  refine fx_gi (k := 2) (f_fldC (ref := "java/util/ArrayList") inf_J14 (by decide) q535 (Or.inl rfl) f_fld0) dJ14_add_17 h (fun v4 h => ?_)
  refine fx_callV (Mc := m_J14_add_2) (as := [va_rf a1, va_rf v3, .int v4]) (cs := [33]) (r := (some a0)) (f_clsC inf_J14 qs20 f_cls0) bm_J14_add_2 q632 q634 (Nat.le_of_ble_eq_true rfl) dJ14_add_20 h (fun b h => mt_J14_add_2 (fx_k2v h (fun σ6 h => ?_) (fun q σ' h => h.elim)))
  refine am_iconst (v := 1) dJ14_add_23 (by decide) ?_
  exact am_zret rfl rfl dJ14_add_24 h
theorem W_J14_add_2_f {G : am_G} {d : Nat} {a0 : Nat} {a1 : Option Nat} {a2 : Option Nat} {a3 : Int32} {σ : am_S} {Q : am_S → Prop} (h : f_Gal G σ a2 16 (fun v1 => ((¬ a3 = v1 → f_sr σ a2 16 [8, 9, 25, 26, 27, 28, 29, 30] a3 a1 (fun σ2 => f_p σ2 (some a0) [33] 2 (.int (a3 + 1)) (fun σ3 => Q σ3))) ∧ (a3 = v1 → f_o σ (some a0) [33] (fun b => W_J14_grow G d b σ (fun v4 σ5 => f_sr σ5 v4 16 [8, 9, 25, 26, 27, 28, 29, 30] a3 a1 (fun σ8 => f_p σ8 (some a0) [33] 2 (.int (a3 + 1)) (fun σ9 => Q σ9)))))))) : W_J14_add_2 G (d + 1) a0 a1 a2 a3 σ Q := by
  unfold W_J14_add_2
  refine am_iload_n (x := a3) dJ14_add_2_0 rfl rfl ?_
  refine am_aloadr_n (x := a2) dJ14_add_2_1 rfl rfl ?_
  refine fx_Gal (τ := 16) rfl dJ14_add_2_2 h (fun v1 h => ?_)
  refine am_icmp_ne (tgt := 11) dJ14_add_2_3 (by decide) (fun c => ?_) (fun c => ?_)
  · have h := h.1 c
    refine am_aloadr_n (x := a2) dJ14_add_2_11 rfl rfl ?_
    refine am_iload_n (x := a3) dJ14_add_2_12 rfl rfl ?_
    refine am_aloadr_n (x := a1) dJ14_add_2_13 rfl rfl ?_
    refine fx_sr (τ := 16) (E := "java/lang/Object") (cs := [8, 9, 25, 26, 27, 28, 29, 30]) (v := a1) rfl (f_clsC inf_X8 (Or.inr q3107) (f_clsC inf_X9 (Or.inr q3108) (f_clsC inf_X28 (Or.inr q3119) (f_clsC inf_X29 (Or.inr q3120) (f_clsC inf_X30 (Or.inr q3121) (f_clsC inf_X31 (Or.inr q3122) (f_clsC inf_X32 (Or.inr q3123) (f_clsC inf_X33 (Or.inr q3124) f_cls0)))))))) dJ14_add_2_14 h (fun σ2 h => ?_)
    refine am_aloadr_n (x := some a0) dJ14_add_2_15 rfl rfl ?_
    refine am_iload_n (x := a3) dJ14_add_2_16 rfl rfl ?_
    refine am_iconst (v := 1) dJ14_add_2_17 (by decide) ?_
    refine am_iadd dJ14_add_2_18 ?_
    refine fx_p (k := 2) (v := .int (a3 + 1)) (f_putC inf_J14 (by decide) rfl rfl q535 (Or.inl rfl) f_put0) dJ14_add_2_19 h (fun σ3 h => ?_)
    exact am_vret rfl dJ14_add_2_22 h
  · have h := h.2 c
    refine am_aloadr_n (x := some a0) dJ14_add_2_6 rfl rfl ?_
    refine fx_callV (Mc := m_J14_grow) (as := []) (cs := [33]) (r := (some a0)) (f_clsC inf_J14 qs21 f_cls0) bm_J14_grow q636 q638 (Nat.le_of_ble_eq_true rfl) dJ14_add_2_7 h (fun b h => mt_J14_grow (fx_k2r h (fun v4 σ5 h => ?_) (fun q σ' h => h.elim)))
    refine am_astore_n (x := v4) (L' := [(4, va_rf v4), (0, va_rf (some a0)), (2, va_rf a1), (6, .int a3)]) dJ14_add_2_10 rfl (Nat.le_of_ble_eq_true rfl) rfl ?_
    refine am_aloadr_n (x := v4) dJ14_add_2_11 rfl rfl ?_
    refine am_iload_n (x := a3) dJ14_add_2_12 rfl rfl ?_
    refine am_aloadr_n (x := a1) dJ14_add_2_13 rfl rfl ?_
    refine fx_sr (τ := 16) (E := "java/lang/Object") (cs := [8, 9, 25, 26, 27, 28, 29, 30]) (v := a1) rfl (f_clsC inf_X8 (Or.inr q3107) (f_clsC inf_X9 (Or.inr q3108) (f_clsC inf_X28 (Or.inr q3119) (f_clsC inf_X29 (Or.inr q3120) (f_clsC inf_X30 (Or.inr q3121) (f_clsC inf_X31 (Or.inr q3122) (f_clsC inf_X32 (Or.inr q3123) (f_clsC inf_X33 (Or.inr q3124) f_cls0)))))))) dJ14_add_2_14 h (fun σ8 h => ?_)
    refine am_aloadr_n (x := some a0) dJ14_add_2_15 rfl rfl ?_
    refine am_iload_n (x := a3) dJ14_add_2_16 rfl rfl ?_
    refine am_iconst (v := 1) dJ14_add_2_17 (by decide) ?_
    refine am_iadd dJ14_add_2_18 ?_
    refine fx_p (k := 2) (v := .int (a3 + 1)) (f_putC inf_J14 (by decide) rfl rfl q535 (Or.inl rfl) f_put0) dJ14_add_2_19 h (fun σ9 h => ?_)
    exact am_vret rfl dJ14_add_2_22 h
theorem W_J14_grow_f {G : am_G} {d : Nat} {a0 : Nat} {σ : am_S} {Q : Option Nat → am_S → Prop} (h : f_gi σ (some a0) [33] 2 (fun v1 => f_o σ (some a0) [33] (fun b => W_J14_grow_2 G d b (v1 + 1) σ (fun v2 σ3 => Q v2 σ3)))) : W_J14_grow G (d + 1) a0 σ Q := by
  unfold W_J14_grow
  refine am_aloadr_n (x := some a0) dJ14_grow_0 rfl rfl ?_
  refine am_aloadr_n (x := some a0) dJ14_grow_1 rfl rfl ?_
  refine fx_gi (k := 2) (f_fldC (ref := "java/util/ArrayList") inf_J14 (by decide) q535 (Or.inl rfl) f_fld0) dJ14_grow_2 h (fun v1 h => ?_)
  refine am_iconst (v := 1) dJ14_grow_5 (by decide) ?_
  refine am_iadd dJ14_grow_6 ?_
  refine fx_callV (Mc := m_J14_grow_2) (as := [.int (v1 + 1)]) (cs := [33]) (r := (some a0)) (f_clsC inf_J14 qs22 f_cls0) bm_J14_grow_2 q640 q642 (Nat.le_of_ble_eq_true rfl) dJ14_grow_7 h (fun b h => mt_J14_grow_2 (fx_k2r h (fun v2 σ3 h => ?_) (fun q σ' h => h.elim)))
  exact fx_aret rfl rfl dJ14_grow_10 h
theorem W_J14_grow_2_f {G : am_G} {d : Nat} {a0 : Nat} {a1 : Int32} {σ : am_S} {Q : Option Nat → am_S → Prop} (h : f_gr σ (some a0) [33] 1 (fun v1 => f_Gal G σ v1 16 (fun v2 => ((0 < v2 → B_J14_grow_2_20 G (d + 1) a0 a1 v2 σ Q) ∧ (¬ 0 < v2 → f_gr σ (some a0) [33] 1 (fun v3 => f_str G 1 (fun v4 => ((v3 = v4 → W_J7_max G d 10 a1 σ (fun v5 σ6 => f_na G σ6 16 f_a0r v5 (fun n9 σ10 => f_p σ10 (some a0) [33] 1 (va_rf (some n9)) (fun σ11 => Q (some n9) σ11)))) ∧ (¬ v3 = v4 → B_J14_grow_2_20 G (d + 1) a0 a1 v2 σ Q))))))))) : W_J14_grow_2 G (d + 1) a0 a1 σ Q := by
  unfold W_J14_grow_2
  refine am_aloadr_n (x := some a0) dJ14_grow_2_0 rfl rfl ?_
  refine fx_gr (k := 1) (f_fldC (ref := "java/util/ArrayList") inf_J14 (by decide) q534 (Or.inl rfl) f_fld0) dJ14_grow_2_1 h (fun v1 h => ?_)
  refine fx_Gal (τ := 16) rfl dJ14_grow_2_4 h (fun v2 h => ?_)
  refine am_istore_n (L' := [(4, .int v2), (0, va_rf (some a0)), (2, .int a1)]) dJ14_grow_2_5 rfl (Nat.le_of_ble_eq_true rfl) rfl ?_
  refine am_iload_n (x := v2) dJ14_grow_2_6 rfl rfl ?_
  refine am_if_gt (tgt := 20) dJ14_grow_2_7 (by decide) (fun c => ?_) (fun c => ?_)
  · have h := h.1 c
    exact am_lss h rfl
  · have h := h.2 c
    refine am_aloadr_n (x := some a0) dJ14_grow_2_10 rfl rfl ?_
    refine fx_gr (k := 1) (f_fldC (ref := "java/util/ArrayList") inf_J14 (by decide) q534 (Or.inl rfl) f_fld0) dJ14_grow_2_11 h (fun v3 h => ?_)
    refine fx_str (i := 1) rfl q532 dJ14_grow_2_14 h (fun v4 h => ?_)
    refine am_acmp_eq (rx := v3) (ry := v4) (tgt := 45) dJ14_grow_2_17 (by decide) (fun c => ?_) (fun c => ?_)
    · have h := h.1 c
      refine am_aloadr_n (x := some a0) dJ14_grow_2_45 rfl rfl ?_
      refine am_bipush (v := 10) dJ14_grow_2_46 (by decide) ?_
      refine am_iload_n (x := a1) dJ14_grow_2_48 rfl rfl ?_
      refine fx_callS (Mc := m_J7_max) (as := [.int 10, .int a1]) bm_J7_max q707 q648 (Nat.le_of_ble_eq_true rfl) dJ14_grow_2_49 (mt_J7_max (fx_k2i h (fun v5 σ6 h => ?_) (fun q σ' h => h.elim)))
      refine fx_nar (τ := 16) q708 q701 rfl dJ14_grow_2_52 h (fun n9 σ10 h => ?_)
      refine am_dup_x1 dJ14_grow_2_55 (am_rf_cat _) (am_rf_cat _) ?_
      refine fx_p (k := 1) (v := va_rf (some n9)) (f_putC inf_J14 (by decide) (f_nra _ _) (f_fra _ _) q534 (Or.inl rfl) f_put0) dJ14_grow_2_56 h (fun σ11 h => ?_)
      exact fx_aret rfl rfl dJ14_grow_2_59 h
    · have h := h.2 c
      exact am_lss h rfl
theorem B_J14_grow_2_20_f {G : am_G} {d : Nat} {a0 : Nat} {x1 : Int32} {x2 : Int32} {σ : am_S} {Q : Option Nat → am_S → Prop} (h : W_J6_newLength G d x2 (x1 - x2) (x2 >>> (1 &&& 31)) σ (fun v1 σ2 => f_gr σ2 (some a0) [33] 1 (fun v5 => W_J8_copyOf G d v5 v1 σ2 (fun v6 σ7 => f_p σ7 (some a0) [33] 1 (va_rf v6) (fun σ10 => Q v6 σ10))))) : B_J14_grow_2_20 G (d + 1) a0 x1 x2 σ Q := by
  unfold B_J14_grow_2_20
  refine am_iload_n (x := x2) dJ14_grow_2_20 rfl rfl ?_
  refine am_iload_n (x := x1) dJ14_grow_2_21 rfl rfl ?_
  refine am_iload_n (x := x2) dJ14_grow_2_22 rfl rfl ?_
  refine am_isub dJ14_grow_2_23 ?_
  refine am_iload_n (x := x2) dJ14_grow_2_24 rfl rfl ?_
  refine am_iconst (v := 1) dJ14_grow_2_25 (by decide) ?_
  refine am_ishr dJ14_grow_2_26 ?_
  refine fx_callS (Mc := m_J6_newLength) (as := [.int x2, .int (x1 - x2), .int (x2 >>> (1 &&& 31))]) bm_J6_newLength q644 q645 (Nat.le_of_ble_eq_true rfl) dJ14_grow_2_27 (mt_J6_newLength (fx_k2i h (fun v1 σ2 h => ?_) (fun q σ' h => h.elim)))
  refine am_istore_n (L' := [(6, .int v1), (0, va_rf (some a0)), (2, .int x1), (4, .int x2)]) dJ14_grow_2_30 rfl (Nat.le_of_ble_eq_true rfl) rfl ?_
  refine am_aloadr_n (x := some a0) dJ14_grow_2_31 rfl rfl ?_
  refine am_aloadr_n (x := some a0) dJ14_grow_2_32 rfl rfl ?_
  refine fx_gr (k := 1) (f_fldC (ref := "java/util/ArrayList") inf_J14 (by decide) q534 (Or.inl rfl) f_fld0) dJ14_grow_2_33 h (fun v5 h => ?_)
  refine am_iload_n (x := v1) dJ14_grow_2_36 rfl rfl ?_
  refine fx_callS (Mc := m_J8_copyOf) (as := [va_rf v5, .int v1]) bm_J8_copyOf q654 q655 (Nat.le_of_ble_eq_true rfl) dJ14_grow_2_37 (mt_J8_copyOf (fx_k2r h (fun v6 σ7 h => ?_) (fun q σ' h => h.elim)))
  refine am_dup_x1 dJ14_grow_2_40 (am_rf_cat _) (am_rf_cat _) ?_
  refine fx_p (k := 1) (v := va_rf v6) (f_putC inf_J14 (by decide) (f_nra _ _) (f_fra _ _) q534 (Or.inl rfl) f_put0) dJ14_grow_2_41 h (fun σ10 h => ?_)
  exact fx_aret rfl rfl dJ14_grow_2_44 h
theorem W_J14_size_f {G : am_G} {d : Nat} {a0 : Nat} {σ : am_S} {Q : Int32 → am_S → Prop} (h : f_gi σ (some a0) [33] 2 (fun v1 => Q v1 σ)) : W_J14_size G d a0 σ Q := by
  unfold W_J14_size
  refine am_aloadr_n (x := some a0) dJ14_size_0 rfl rfl ?_
  refine fx_gi (k := 2) (f_fldC (ref := "java/util/ArrayList") inf_J14 (by decide) q535 (Or.inl rfl) f_fld0) dJ14_size_1 h (fun v1 h => ?_)
  exact am_iret rfl dJ14_size_4 h
theorem W_J14_get_f {G : am_G} {d : Nat} {a0 : Nat} {a1 : Int32} {σ : am_S} {Q : Option Nat → am_S → Prop} (h : f_gi σ (some a0) [33] 2 (fun v1 => W_J15_checkIndex G d a1 v1 σ (fun v2 σ3 => f_o σ3 (some a0) [33] (fun b => W_J14_elementData G d b a1 σ3 (fun v6 σ7 => Q v6 σ7))))) : W_J14_get G (d + 1) a0 a1 σ Q := by
  unfold W_J14_get
  refine am_iload_n (x := a1) dJ14_get_0 rfl rfl ?_
  refine am_aloadr_n (x := some a0) dJ14_get_1 rfl rfl ?_
  refine fx_gi (k := 2) (f_fldC (ref := "java/util/ArrayList") inf_J14 (by decide) q535 (Or.inl rfl) f_fld0) dJ14_get_2 h (fun v1 h => ?_)
  refine fx_callS (Mc := m_J15_checkIndex) (as := [.int a1, .int v1]) bm_J15_checkIndex q725 q726 (Nat.le_of_ble_eq_true rfl) dJ14_get_5 (mt_J15_checkIndex (fx_k2i h (fun v2 σ3 h => ?_) (fun q σ' h => h.elim)))
  refine am_pop dJ14_get_8 rfl ?_
  refine am_aloadr_n (x := some a0) dJ14_get_9 rfl rfl ?_
  refine am_iload_n (x := a1) dJ14_get_10 rfl rfl ?_
  refine fx_callV (Mc := m_J14_elementData) (as := [.int a1]) (cs := [33]) (r := (some a0)) (f_clsC inf_J14 q733 f_cls0) bm_J14_elementData q731 q732 (Nat.le_of_ble_eq_true rfl) dJ14_get_11 h (fun b h => mt_J14_elementData (fx_k2r h (fun v6 σ7 h => ?_) (fun q σ' h => h.elim)))
  exact fx_aret rfl rfl dJ14_get_14 h
theorem W_J14_elementData_f {G : am_G} {d : Nat} {a0 : Nat} {a1 : Int32} {σ : am_S} {Q : Option Nat → am_S → Prop} (h : f_gr σ (some a0) [33] 1 (fun v1 => f_ar σ v1 16 a1 (fun v2 => Q v2 σ))) : W_J14_elementData G d a0 a1 σ Q := by
  unfold W_J14_elementData
  refine am_aloadr_n (x := some a0) dJ14_elementData_0 rfl rfl ?_
  refine fx_gr (k := 1) (f_fldC (ref := "java/util/ArrayList") inf_J14 (by decide) q534 (Or.inl rfl) f_fld0) dJ14_elementData_1 h (fun v1 h => ?_)
  refine am_iload_n (x := a1) dJ14_elementData_4 rfl rfl ?_
  refine fx_ar (τ := 16) rfl rfl dJ14_elementData_5 h (fun v2 h => ?_)
  exact fx_aret rfl rfl dJ14_elementData_6 h
theorem W_J14_remove_f {G : am_G} {d : Nat} {a0 : Nat} {a1 : Int32} {σ : am_S} {Q : Option Nat → am_S → Prop} (h : f_gi σ (some a0) [33] 2 (fun v1 => W_J15_checkIndex G d a1 v1 σ (fun v2 σ3 => f_gr σ3 (some a0) [33] 1 (fun v6 => f_ar σ3 v6 16 a1 (fun v7 => f_o σ3 (some a0) [33] (fun b => W_J14_fastRemove G d b v6 a1 σ3 (fun σ9 => Q v7 σ9))))))) : W_J14_remove G (d + 1) a0 a1 σ Q := by
  unfold W_J14_remove
  refine am_iload_n (x := a1) dJ14_remove_0 rfl rfl ?_
  refine am_aloadr_n (x := some a0) dJ14_remove_1 rfl rfl ?_
  refine fx_gi (k := 2) (f_fldC (ref := "java/util/ArrayList") inf_J14 (by decide) q535 (Or.inl rfl) f_fld0) dJ14_remove_2 h (fun v1 h => ?_)
  refine fx_callS (Mc := m_J15_checkIndex) (as := [.int a1, .int v1]) bm_J15_checkIndex q725 q726 (Nat.le_of_ble_eq_true rfl) dJ14_remove_5 (mt_J15_checkIndex (fx_k2i h (fun v2 σ3 h => ?_) (fun q σ' h => h.elim)))
  refine am_pop dJ14_remove_8 rfl ?_
  refine am_aloadr_n (x := some a0) dJ14_remove_9 rfl rfl ?_
  refine fx_gr (k := 1) (f_fldC (ref := "java/util/ArrayList") inf_J14 (by decide) q534 (Or.inl rfl) f_fld0) dJ14_remove_10 h (fun v6 h => ?_)
  refine am_astore_n (x := v6) (L' := [(4, va_rf v6), (0, va_rf (some a0)), (2, .int a1)]) dJ14_remove_13 rfl (Nat.le_of_ble_eq_true rfl) rfl ?_
  refine am_aloadr_n (x := v6) dJ14_remove_14 rfl rfl ?_
  refine am_iload_n (x := a1) dJ14_remove_15 rfl rfl ?_
  refine fx_ar (τ := 16) rfl rfl dJ14_remove_16 h (fun v7 h => ?_)
  refine am_astore_n (x := v7) (L' := [(6, va_rf v7), (4, va_rf v6), (0, va_rf (some a0)), (2, .int a1)]) dJ14_remove_17 rfl (Nat.le_of_ble_eq_true rfl) rfl ?_
  refine am_aloadr_n (x := some a0) dJ14_remove_18 rfl rfl ?_
  refine am_aloadr_n (x := v6) dJ14_remove_19 rfl rfl ?_
  refine am_iload_n (x := a1) dJ14_remove_20 rfl rfl ?_
  refine fx_callV (Mc := m_J14_fastRemove) (as := [va_rf v6, .int a1]) (cs := [33]) (r := (some a0)) (f_clsC inf_J14 qs25 f_cls0) bm_J14_fastRemove q844 q846 (Nat.le_of_ble_eq_true rfl) dJ14_remove_21 h (fun b h => mt_J14_fastRemove (fx_k2v h (fun σ9 h => ?_) (fun q σ' h => h.elim)))
  refine am_aloadr_n (x := v7) dJ14_remove_24 rfl rfl ?_
  exact fx_aret rfl rfl dJ14_remove_25 h
theorem W_J14_fastRemove_f {G : am_G} {d : Nat} {a0 : Nat} {a1 : Option Nat} {a2 : Int32} {σ : am_S} {Q : am_S → Prop} (h : f_gi σ (some a0) [33] 0 (fun v1 => f_p σ (some a0) [33] 0 (.int (v1 + 1)) (fun σ2 => f_gi σ2 (some a0) [33] 2 (fun v3 => (((v3 - 1) ≤ a2 → f_p σ2 (some a0) [33] 2 (.int (v3 - 1)) (fun σ4 => f_sr σ4 a1 16 [] (v3 - 1) none (fun σ5 => Q σ5))) ∧ (¬ (v3 - 1) ≤ a2 → f_cpr σ2 a1 (a2 + 1) a1 a2 ((v3 - 1) - a2) 16 [8, 9, 25, 26, 27, 28, 29, 30] (fun σ6 => f_p σ6 (some a0) [33] 2 (.int (v3 - 1)) (fun σ7 => f_sr σ7 a1 16 [] (v3 - 1) none (fun σ8 => Q σ8))))))))) : W_J14_fastRemove G (d + 1) a0 a1 a2 σ Q := by
  unfold W_J14_fastRemove
  refine am_aloadr_n (x := some a0) dJ14_fastRemove_0 rfl rfl ?_
  refine am_dup dJ14_fastRemove_1 (am_rf_cat _) ?_
  refine fx_gi (k := 0) (f_fldC (ref := "java/util/ArrayList") inf_J14 (by decide) q537 (Or.inr ⟨rfl, q538⟩) f_fld0) dJ14_fastRemove_2 h (fun v1 h => ?_)
  refine am_iconst (v := 1) dJ14_fastRemove_5 (by decide) ?_
  refine am_iadd dJ14_fastRemove_6 ?_
  refine fx_pU (k := 0) (v := .int (v1 + 1)) inf_J14 (by decide) q537 q538 rfl rfl rfl dJ14_fastRemove_7 h (fun σ2 h => ?_)
  refine am_aloadr_n (x := some a0) dJ14_fastRemove_10 rfl rfl ?_
  refine fx_gi (k := 2) (f_fldC (ref := "java/util/ArrayList") inf_J14 (by decide) q535 (Or.inl rfl) f_fld0) dJ14_fastRemove_11 h (fun v3 h => ?_)
  refine am_iconst (v := 1) dJ14_fastRemove_14 (by decide) ?_
  refine am_isub dJ14_fastRemove_15 ?_
  refine am_dup dJ14_fastRemove_16 rfl ?_
  refine am_istore_n (L' := [(6, .int (v3 - 1)), (0, va_rf (some a0)), (2, va_rf a1), (4, .int a2)]) dJ14_fastRemove_17 rfl (Nat.le_of_ble_eq_true rfl) rfl ?_
  refine am_iload_n (x := a2) dJ14_fastRemove_18 rfl rfl ?_
  refine am_icmp_le (tgt := 34) dJ14_fastRemove_19 (by decide) (fun c => ?_) (fun c => ?_)
  · have h := h.1 c
    refine am_aloadr_n (x := a1) dJ14_fastRemove_34 rfl rfl ?_
    refine am_aloadr_n (x := some a0) dJ14_fastRemove_35 rfl rfl ?_
    refine am_iload_n (x := (v3 - 1)) dJ14_fastRemove_36 rfl rfl ?_
    refine am_dup_x1 dJ14_fastRemove_37 rfl (am_rf_cat _) ?_
    refine fx_p (k := 2) (v := .int (v3 - 1)) (f_putC inf_J14 (by decide) rfl rfl q535 (Or.inl rfl) f_put0) dJ14_fastRemove_38 h (fun σ4 h => ?_)
    refine am_null dJ14_fastRemove_41 ?_
    refine fx_sr (τ := 16) (E := "java/lang/Object") (cs := []) (v := none) rfl f_cls0 dJ14_fastRemove_42 h (fun σ5 h => ?_)
    exact am_vret rfl dJ14_fastRemove_43 h
  · have h := h.2 c
    refine am_aloadr_n (x := a1) dJ14_fastRemove_22 rfl rfl ?_
    refine am_iload_n (x := a2) dJ14_fastRemove_23 rfl rfl ?_
    refine am_iconst (v := 1) dJ14_fastRemove_24 (by decide) ?_
    refine am_iadd dJ14_fastRemove_25 ?_
    refine am_aloadr_n (x := a1) dJ14_fastRemove_26 rfl rfl ?_
    refine am_iload_n (x := a2) dJ14_fastRemove_27 rfl rfl ?_
    refine am_iload_n (x := (v3 - 1)) dJ14_fastRemove_28 rfl rfl ?_
    refine am_iload_n (x := a2) dJ14_fastRemove_29 rfl rfl ?_
    refine am_isub dJ14_fastRemove_30 ?_
    refine fx_cpr (τ := 16) (E := "java/lang/Object") (cs := [8, 9, 25, 26, 27, 28, 29, 30]) q848 q623 q622 q177 rfl (am_mayL (f_clsC inf_X8 (Or.inr q3107) (f_clsC inf_X9 (Or.inr q3108) (f_clsC inf_X28 (Or.inr q3119) (f_clsC inf_X29 (Or.inr q3120) (f_clsC inf_X30 (Or.inr q3121) (f_clsC inf_X31 (Or.inr q3122) (f_clsC inf_X32 (Or.inr q3123) (f_clsC inf_X33 (Or.inr q3124) f_cls0))))))))) (Nat.le_of_ble_eq_true rfl) dJ14_fastRemove_31 h (fun σ6 h => ?_)
    refine am_aloadr_n (x := a1) dJ14_fastRemove_34 rfl rfl ?_
    refine am_aloadr_n (x := some a0) dJ14_fastRemove_35 rfl rfl ?_
    refine am_iload_n (x := (v3 - 1)) dJ14_fastRemove_36 rfl rfl ?_
    refine am_dup_x1 dJ14_fastRemove_37 rfl (am_rf_cat _) ?_
    refine fx_p (k := 2) (v := .int (v3 - 1)) (f_putC inf_J14 (by decide) rfl rfl q535 (Or.inl rfl) f_put0) dJ14_fastRemove_38 h (fun σ7 h => ?_)
    refine am_null dJ14_fastRemove_41 ?_
    refine fx_sr (τ := 16) (E := "java/lang/Object") (cs := []) (v := none) rfl f_cls0 dJ14_fastRemove_42 h (fun σ8 h => ?_)
    exact am_vret rfl dJ14_fastRemove_43 h
theorem W_J15_checkIndex_f {G : am_G} {d : Nat} {a1 : Int32} {a2 : Int32} {σ : am_S} {Q : Int32 → am_S → Prop} (h : W_J10_checkIndex G d a1 a2 none σ (fun v1 σ2 => Q v1 σ2)) : W_J15_checkIndex G (d + 1) a1 a2 σ Q := by
  unfold W_J15_checkIndex
  refine am_iload_n (x := a1) dJ15_checkIndex_0 rfl rfl ?_
  refine am_iload_n (x := a2) dJ15_checkIndex_1 rfl rfl ?_
  refine am_null dJ15_checkIndex_2 ?_
  refine fx_callS (Mc := m_J10_checkIndex) (as := [.int a1, .int a2, va_rf none]) bm_J10_checkIndex q728 q729 (Nat.le_of_ble_eq_true rfl) dJ15_checkIndex_3 (mt_J10_checkIndex (fx_k2i h (fun v1 σ2 h => ?_) (fun q σ' h => h.elim)))
  exact am_iret rfl dJ15_checkIndex_6 h
theorem W_J2_init_f {G : am_G} {d : Nat} {a0 : Nat} {a1 : Int32} {σ : am_S} {Q : am_S → Prop} (h : f_sti G 0 (fun v1 => ((v1 = 0 → False) ∧ (¬ v1 = 0 → f_na G σ 1 f_a0i a1 (fun n4 σ5 => f_p σ5 (some a0) [34] 0 (va_rf (some n4)) (fun σ6 => f_p σ6 (some a0) [34] 1 (.int 0) (fun σ7 => Q σ7))))))) : W_J2_init G (d + 1) a0 a1 σ Q := by
  unfold W_J2_init
  refine am_aloadr_n (x := some a0) dJ2_init_0 rfl rfl ?_
  refine am_objInit q1420 q304 q305 (Nat.le_of_ble_eq_true rfl) dJ2_init_1 ?_
  refine fx_sti (i := 0) rfl q1421 dJ2_init_4 h (fun v1 h => ?_)
  refine am_if_eq (tgt := 25) dJ2_init_7 (by decide) (fun c => ?_) (fun c => ?_)
  · have h := h.1 c
    refine am_aloadr_n (x := some a0) dJ2_init_25 rfl rfl ?_
    refine am_iload_n (x := a1) dJ2_init_26 rfl rfl ?_
    exact h.elim
  · have h := h.2 c
    refine am_aloadr_n (x := some a0) dJ2_init_10 rfl rfl ?_
    refine am_iload_n (x := a1) dJ2_init_11 rfl rfl ?_
    refine fx_nai (atype := .byte) (τ := 1) q1151 rfl (fun N cA => rfl) dJ2_init_12 h (fun n4 σ5 h => ?_)
    refine fx_p (k := 0) (v := va_rf (some n4)) (f_putC inf_J3 (by decide) (f_nra _ _) (f_fra _ _) q1430 (Or.inl rfl) f_put0) dJ2_init_14 h (fun σ6 h => ?_)
    refine am_aloadr_n (x := some a0) dJ2_init_17 rfl rfl ?_
    refine am_iconst (v := 0) dJ2_init_18 (by decide) ?_
    refine fx_p (k := 1) (v := .int 0) (f_putC inf_J3 (by decide) rfl rfl q1431 (Or.inl rfl) f_put0) dJ2_init_19 h (fun σ7 h => ?_)
    refine am_goto (tgt := 38) dJ2_init_22 (by decide) ?_
    exact am_vret rfl dJ2_init_38 h
theorem W_J2_length_f {G : am_G} {d : Nat} {a0 : Nat} {σ : am_S} {Q : Int32 → am_S → Prop} (h : f_gi σ (some a0) [34] 3 (fun v1 => Q v1 σ)) : W_J2_length G d a0 σ Q := by
  unfold W_J2_length
  refine am_aloadr_n (x := some a0) dJ2_length_0 rfl rfl ?_
  refine fx_gi (k := 3) (f_fldC (ref := "java/lang/AbstractStringBuilder") inf_J3 (by decide) q1433 (Or.inl rfl) f_fld0) dJ2_length_1 h (fun v1 h => ?_)
  exact am_iret rfl dJ2_length_4 h
theorem W_J2_append_f {G : am_G} {d : Nat} {a0 : Nat} {a1 : Int32} {σ : am_S} {Q : Option Nat → am_S → Prop} (h : f_gi σ (some a0) [34] 3 (fun v1 => f_o σ (some a0) [34] (fun b => W_J2_ensureCapacityInternal G d b (v1 + 1) σ (fun σ3 => f_o σ3 (some a0) [34] (fun b => W_J2_isLatin1 G d b σ3 (fun v6 σ7 => ((v6 = 0 → f_o σ7 (some a0) [34] (fun b => W_J2_isLatin1 G d b σ7 (fun v10 σ11 => ((v10 = 0 → B_J2_append_56 G (d + 1) a0 a1 σ11 Q) ∧ (¬ v10 = 0 → False))))) ∧ (¬ v6 = 0 → W_J9_canEncode G d a1 σ7 (fun v16 σ17 => ((v16 = 0 → f_o σ17 (some a0) [34] (fun b => W_J2_isLatin1 G d b σ17 (fun v20 σ21 => ((v20 = 0 → B_J2_append_56 G (d + 1) a0 a1 σ21 Q) ∧ (¬ v20 = 0 → False))))) ∧ (¬ v16 = 0 → f_gr σ17 (some a0) [34] 0 (fun v26 => f_gi σ17 (some a0) [34] 3 (fun v27 => f_p σ17 (some a0) [34] 3 (.int (v27 + 1)) (fun σ28 => f_si σ28 v26 1 v27 ((Int32.toInt8 a1).toInt32) (fun σ29 => Q (some a0) σ29))))))))))))))) : W_J2_append G (d + 1) a0 a1 σ Q := by
  unfold W_J2_append
  refine am_aloadr_n (x := some a0) dJ2_append_0 rfl rfl ?_
  refine am_aloadr_n (x := some a0) dJ2_append_1 rfl rfl ?_
  refine fx_gi (k := 3) (f_fldC (ref := "java/lang/AbstractStringBuilder") inf_J3 (by decide) q1433 (Or.inl rfl) f_fld0) dJ2_append_2 h (fun v1 h => ?_)
  refine am_iconst (v := 1) dJ2_append_5 (by decide) ?_
  refine am_iadd dJ2_append_6 ?_
  refine fx_callP (Mc := m_J2_ensureCapacityInternal) (as := [.int (v1 + 1)]) (cs := [34]) (r := (some a0)) (f_clsC inf_J3 trivial f_cls0) bm_J2_ensureCapacityInternal q1457 q1459 q1458 q1478 rfl (Nat.le_of_ble_eq_true rfl) dJ2_append_7 h (fun b h => mt_J2_ensureCapacityInternal (fx_k2v h (fun σ3 h => ?_) (fun q σ' h => h.elim)))
  refine am_aloadr_n (x := some a0) dJ2_append_10 rfl rfl ?_
  refine fx_callV (Mc := m_J2_isLatin1) (as := []) (cs := [34]) (r := (some a0)) (f_clsC inf_J3 q1478 f_cls0) bm_J2_isLatin1 q1475 q1476 (Nat.le_of_ble_eq_true rfl) dJ2_append_11 h (fun b h => mt_J2_isLatin1 (fx_k2i h (fun v6 σ7 h => ?_) (fun q σ' h => h.elim)))
  refine am_if_eq (tgt := 45) dJ2_append_14 (by decide) (fun c => ?_) (fun c => ?_)
  · have h := h.1 c
    refine am_aloadr_n (x := some a0) dJ2_append_45 rfl rfl ?_
    refine fx_callV (Mc := m_J2_isLatin1) (as := []) (cs := [34]) (r := (some a0)) (f_clsC inf_J3 q1478 f_cls0) bm_J2_isLatin1 q1475 q1476 (Nat.le_of_ble_eq_true rfl) dJ2_append_46 h (fun b h => mt_J2_isLatin1 (fx_k2i h (fun v10 σ11 h => ?_) (fun q σ' h => h.elim)))
    refine am_if_eq (tgt := 56) dJ2_append_49 (by decide) (fun c => ?_) (fun c => ?_)
    · have h := h.1 c
      exact am_lss h rfl
    · have h := h.2 c
      refine am_aloadr_n (x := some a0) dJ2_append_52 rfl rfl ?_
      exact h.elim
  · have h := h.2 c
    refine am_iload_n (x := a1) dJ2_append_17 rfl rfl ?_
    refine fx_callS (Mc := m_J9_canEncode) (as := [.int a1]) bm_J9_canEncode q1480 q1481 (Nat.le_of_ble_eq_true rfl) dJ2_append_18 (mt_J9_canEncode (fx_k2i h (fun v16 σ17 h => ?_) (fun q σ' h => h.elim)))
    refine am_if_eq (tgt := 45) dJ2_append_21 (by decide) (fun c => ?_) (fun c => ?_)
    · have h := h.1 c
      refine am_aloadr_n (x := some a0) dJ2_append_45 rfl rfl ?_
      refine fx_callV (Mc := m_J2_isLatin1) (as := []) (cs := [34]) (r := (some a0)) (f_clsC inf_J3 q1478 f_cls0) bm_J2_isLatin1 q1475 q1476 (Nat.le_of_ble_eq_true rfl) dJ2_append_46 h (fun b h => mt_J2_isLatin1 (fx_k2i h (fun v20 σ21 h => ?_) (fun q σ' h => h.elim)))
      refine am_if_eq (tgt := 56) dJ2_append_49 (by decide) (fun c => ?_) (fun c => ?_)
      · have h := h.1 c
        exact am_lss h rfl
      · have h := h.2 c
        refine am_aloadr_n (x := some a0) dJ2_append_52 rfl rfl ?_
        exact h.elim
    · have h := h.2 c
      refine am_aloadr_n (x := some a0) dJ2_append_24 rfl rfl ?_
      refine fx_gr (k := 0) (f_fldC (ref := "java/lang/AbstractStringBuilder") inf_J3 (by decide) q1430 (Or.inl rfl) f_fld0) dJ2_append_25 h (fun v26 h => ?_)
      refine am_aloadr_n (x := some a0) dJ2_append_28 rfl rfl ?_
      refine am_dup dJ2_append_29 (am_rf_cat _) ?_
      refine fx_gi (k := 3) (f_fldC (ref := "java/lang/AbstractStringBuilder") inf_J3 (by decide) q1433 (Or.inl rfl) f_fld0) dJ2_append_30 h (fun v27 h => ?_)
      refine am_dup_x1 dJ2_append_33 rfl (am_rf_cat _) ?_
      refine am_iconst (v := 1) dJ2_append_34 (by decide) ?_
      refine am_iadd dJ2_append_35 ?_
      refine fx_p (k := 3) (v := .int (v27 + 1)) (f_putC inf_J3 (by decide) rfl rfl q1433 (Or.inl rfl) f_put0) dJ2_append_36 h (fun σ28 h => ?_)
      refine am_iload_n (x := a1) dJ2_append_39 rfl rfl ?_
      refine am_i2b dJ2_append_40 rfl ?_
      refine fx_si1 dJ2_append_41 h (fun σ29 h => ?_)
      refine am_goto (tgt := 75) dJ2_append_42 (by decide) ?_
      refine am_aloadr_n (x := some a0) dJ2_append_75 rfl rfl ?_
      exact fx_aret rfl rfl dJ2_append_76 h
theorem B_J2_append_56_f {G : am_G} {d : Nat} {a0 : Nat} {x1 : Int32} {σ : am_S} {Q : Option Nat → am_S → Prop} (h : f_gr σ (some a0) [34] 0 (fun v1 => f_gi σ (some a0) [34] 3 (fun v2 => f_p σ (some a0) [34] 3 (.int (v2 + 1)) (fun σ3 => False)))) : B_J2_append_56 G (d + 1) a0 x1 σ Q := by
  unfold B_J2_append_56
  refine am_aloadr_n (x := some a0) dJ2_append_56 rfl rfl ?_
  refine fx_gr (k := 0) (f_fldC (ref := "java/lang/AbstractStringBuilder") inf_J3 (by decide) q1430 (Or.inl rfl) f_fld0) dJ2_append_57 h (fun v1 h => ?_)
  refine am_aloadr_n (x := some a0) dJ2_append_60 rfl rfl ?_
  refine am_dup dJ2_append_61 (am_rf_cat _) ?_
  refine fx_gi (k := 3) (f_fldC (ref := "java/lang/AbstractStringBuilder") inf_J3 (by decide) q1433 (Or.inl rfl) f_fld0) dJ2_append_62 h (fun v2 h => ?_)
  refine am_dup_x1 dJ2_append_65 rfl (am_rf_cat _) ?_
  refine am_iconst (v := 1) dJ2_append_66 (by decide) ?_
  refine am_iadd dJ2_append_67 ?_
  refine fx_p (k := 3) (v := .int (v2 + 1)) (f_putC inf_J3 (by decide) rfl rfl q1433 (Or.inl rfl) f_put0) dJ2_append_68 h (fun σ3 h => ?_)
  refine am_iload_n (x := x1) dJ2_append_71 rfl rfl ?_
  exact h.elim
theorem W_J2_ensureCapacityInternal_f {G : am_G} {d : Nat} {a0 : Nat} {a1 : Int32} {σ : am_S} {Q : am_S → Prop} (h : f_gr σ (some a0) [34] 0 (fun v1 => f_al σ v1 1 (fun v2 => f_gi σ (some a0) [34] 1 (fun v3 => (((a1 - (v2 >>> (v3 &&& 31))) ≤ 0 → Q σ) ∧ (¬ (a1 - (v2 >>> (v3 &&& 31))) ≤ 0 → f_gr σ (some a0) [34] 0 (fun v4 => False))))))) : W_J2_ensureCapacityInternal G (d + 1) a0 a1 σ Q := by
  unfold W_J2_ensureCapacityInternal
  refine am_aloadr_n (x := some a0) dJ2_ensureCapacityInternal_0 rfl rfl ?_
  refine fx_gr (k := 0) (f_fldC (ref := "java/lang/AbstractStringBuilder") inf_J3 (by decide) q1430 (Or.inl rfl) f_fld0) dJ2_ensureCapacityInternal_1 h (fun v1 h => ?_)
  refine fx_al (τ := 1) rfl dJ2_ensureCapacityInternal_4 h (fun v2 h => ?_)
  refine am_aloadr_n (x := some a0) dJ2_ensureCapacityInternal_5 rfl rfl ?_
  refine fx_gi (k := 1) (f_fldC (ref := "java/lang/AbstractStringBuilder") inf_J3 (by decide) q1431 (Or.inl rfl) f_fld0) dJ2_ensureCapacityInternal_6 h (fun v3 h => ?_)
  refine am_ishr dJ2_ensureCapacityInternal_9 ?_
  refine am_istore_n (L' := [(4, .int (v2 >>> (v3 &&& 31))), (0, va_rf (some a0)), (2, .int a1)]) dJ2_ensureCapacityInternal_10 rfl (Nat.le_of_ble_eq_true rfl) rfl ?_
  refine am_iload_n (x := a1) dJ2_ensureCapacityInternal_11 rfl rfl ?_
  refine am_iload_n (x := (v2 >>> (v3 &&& 31))) dJ2_ensureCapacityInternal_12 rfl rfl ?_
  refine am_isub dJ2_ensureCapacityInternal_13 ?_
  refine am_if_le (tgt := 38) dJ2_ensureCapacityInternal_14 (by decide) (fun c => ?_) (fun c => ?_)
  · have h := h.1 c
    exact am_vret rfl dJ2_ensureCapacityInternal_38 h
  · have h := h.2 c
    refine am_aloadr_n (x := some a0) dJ2_ensureCapacityInternal_17 rfl rfl ?_
    refine am_aloadr_n (x := some a0) dJ2_ensureCapacityInternal_18 rfl rfl ?_
    refine fx_gr (k := 0) (f_fldC (ref := "java/lang/AbstractStringBuilder") inf_J3 (by decide) q1430 (Or.inl rfl) f_fld0) dJ2_ensureCapacityInternal_19 h (fun v4 h => ?_)
    refine am_aloadr_n (x := some a0) dJ2_ensureCapacityInternal_22 rfl rfl ?_
    refine am_iload_n (x := a1) dJ2_ensureCapacityInternal_23 rfl rfl ?_
    exact h.elim
theorem W_J2_isLatin1_f {G : am_G} {d : Nat} {a0 : Nat} {σ : am_S} {Q : Int32 → am_S → Prop} (h : f_sti G 0 (fun v1 => ((v1 = 0 → Q 0 σ) ∧ (¬ v1 = 0 → f_gi σ (some a0) [34] 1 (fun v2 => ((¬ v2 = 0 → Q 0 σ) ∧ (v2 = 0 → Q 1 σ))))))) : W_J2_isLatin1 G d a0 σ Q := by
  unfold W_J2_isLatin1
  refine fx_sti (i := 0) rfl q1421 dJ2_isLatin1_0 h (fun v1 h => ?_)
  refine am_if_eq (tgt := 17) dJ2_isLatin1_3 (by decide) (fun c => ?_) (fun c => ?_)
  · have h := h.1 c
    refine am_iconst (v := 0) dJ2_isLatin1_17 (by decide) ?_
    exact am_zret rfl rfl dJ2_isLatin1_18 h
  · have h := h.2 c
    refine am_aloadr_n (x := some a0) dJ2_isLatin1_6 rfl rfl ?_
    refine fx_gi (k := 1) (f_fldC (ref := "java/lang/AbstractStringBuilder") inf_J3 (by decide) q1431 (Or.inl rfl) f_fld0) dJ2_isLatin1_7 h (fun v2 h => ?_)
    refine am_if_ne (tgt := 17) dJ2_isLatin1_10 (by decide) (fun c => ?_) (fun c => ?_)
    · have h := h.1 c
      refine am_iconst (v := 0) dJ2_isLatin1_17 (by decide) ?_
      exact am_zret rfl rfl dJ2_isLatin1_18 h
    · have h := h.2 c
      refine am_iconst (v := 1) dJ2_isLatin1_13 (by decide) ?_
      refine am_goto (tgt := 18) dJ2_isLatin1_14 (by decide) ?_
      exact am_zret rfl rfl dJ2_isLatin1_18 h
theorem W_J2_getValue_f {G : am_G} {d : Nat} {a0 : Nat} {σ : am_S} {Q : Option Nat → am_S → Prop} (h : f_gr σ (some a0) [34] 0 (fun v1 => Q v1 σ)) : W_J2_getValue G d a0 σ Q := by
  unfold W_J2_getValue
  refine am_aloadr_n (x := some a0) dJ2_getValue_0 rfl rfl ?_
  refine fx_gr (k := 0) (f_fldC (ref := "java/lang/AbstractStringBuilder") inf_J3 (by decide) q1430 (Or.inl rfl) f_fld0) dJ2_getValue_1 h (fun v1 h => ?_)
  exact fx_aret rfl rfl dJ2_getValue_4 h
theorem W_J3_init_f {G : am_G} {d : Nat} {a0 : Nat} {a1 : Int32} {σ : am_S} {Q : am_S → Prop} (h : W_J2_init G d a0 a1 σ (fun σ2 => Q σ2)) : W_J3_init G (d + 1) a0 a1 σ Q := by
  unfold W_J3_init
  refine am_aloadr_n (x := some a0) dJ3_init_0 rfl rfl ?_
  refine am_iload_n (x := a1) dJ3_init_1 rfl rfl ?_
  refine fx_callI (Mc := m_J2_init) (as := [.int a1]) bm_J2_init q1417 q1418 rfl rfl (Nat.le_of_ble_eq_true rfl) dJ3_init_2 (mt_J2_init (fx_k2v h (fun σ2 h => ?_) (fun q σ' h => h.elim)))
  exact am_vret rfl dJ3_init_5 h
theorem W_J3_length_f {G : am_G} {d : Nat} {a0 : Nat} {σ : am_S} {Q : Int32 → am_S → Prop} (h : f_o σ (some a0) [34] (fun b => W_J2_length G d b σ (fun v1 σ2 => Q v1 σ2))) : W_J3_length G (d + 1) a0 σ Q := by
  unfold W_J3_length
  refine am_aloadr_n (x := some a0) dJ3_length_0 rfl rfl ?_
  refine fx_callSup (Mc := m_J2_length) (as := []) (r := (some a0)) (f_clsC inf_J3 trivial f_cls0) bm_J2_length q1447 q3075 q1442 q1448 (by decide) (Nat.le_of_ble_eq_true rfl) dJ3_length_1 h (fun b h => mt_J2_length (fx_k2i h (fun v1 σ2 h => ?_) (fun q σ' h => h.elim)))
  exact am_iret rfl dJ3_length_4 h
theorem W_J3_append_f {G : am_G} {d : Nat} {a0 : Nat} {a1 : Int32} {σ : am_S} {Q : Option Nat → am_S → Prop} (h : f_o σ (some a0) [34] (fun b => W_J2_append G d b a1 σ (fun v1 σ2 => Q (some a0) σ2))) : W_J3_append G (d + 1) a0 a1 σ Q := by
  unfold W_J3_append
  refine am_aloadr_n (x := some a0) dJ3_append_0 rfl rfl ?_
  refine am_iload_n (x := a1) dJ3_append_1 rfl rfl ?_
  refine fx_callSup (Mc := m_J2_append) (as := [.int a1]) (r := (some a0)) (f_clsC inf_J3 trivial f_cls0) bm_J2_append q1454 q3076 q1442 q1455 (by decide) (Nat.le_of_ble_eq_true rfl) dJ3_append_2 h (fun b h => mt_J2_append (fx_k2r h (fun v1 σ2 h => ?_) (fun q σ' h => h.elim)))
  refine am_pop dJ3_append_5 (am_rf_cat _) ?_
  refine am_aloadr_n (x := some a0) dJ3_append_6 rfl rfl ?_
  exact fx_aret rfl rfl dJ3_append_7 h
theorem W_J3_toString_f {G : am_G} {d : Nat} {a0 : Nat} {σ : am_S} {Q : Option Nat → am_S → Prop} (h : f_new G σ 35 4 tyJ4 (fun n1 σ2 => W_J4_init G d n1 (some a0) σ2 (fun σ4 => Q (some n1) σ4))) : W_J3_toString G (d + 1) a0 σ Q := by
  unfold W_J3_toString
  refine fx_new inf_J4 q1530 q1531 q172 dJ3_toString_0 h (fun n1 σ2 h => ?_)
  refine am_dup dJ3_toString_3 (am_rf_cat _) ?_
  refine am_aloadr_n (x := some a0) dJ3_toString_4 rfl rfl ?_
  refine fx_callI (Mc := m_J4_init) (as := [va_rf (some a0)]) bm_J4_init q1532 q1533 rfl rfl (Nat.le_of_ble_eq_true rfl) dJ3_toString_5 (mt_J4_init (fx_k2v h (fun σ4 h => ?_) (fun q σ' h => h.elim)))
  exact fx_aret rfl rfl dJ3_toString_8 h
theorem W_J4_init_f {G : am_G} {d : Nat} {a0 : Nat} {a1 : Option Nat} {σ : am_S} {Q : am_S → Prop} (h : W_J4_init_2 G d a0 a1 none σ (fun σ2 => Q σ2)) : W_J4_init G (d + 1) a0 a1 σ Q := by
  unfold W_J4_init
  refine am_aloadr_n (x := some a0) dJ4_init_0 rfl rfl ?_
  refine am_aloadr_n (x := a1) dJ4_init_1 rfl rfl ?_
  refine am_null dJ4_init_2 ?_
  refine fx_callI (Mc := m_J4_init_2) (as := [va_rf a1, va_rf none]) bm_J4_init_2 q1535 q1536 rfl rfl (Nat.le_of_ble_eq_true rfl) dJ4_init_3 (mt_J4_init_2 (fx_k2v h (fun σ2 h => ?_) (fun q σ' h => h.elim)))
  exact am_vret rfl dJ4_init_6 h
theorem W_J4_init_2_f {G : am_G} {d : Nat} {a0 : Nat} {a1 : Option Nat} {a2 : Option Nat} {σ : am_S} {Q : am_S → Prop} (h : f_o σ a1 [34] (fun b => W_J2_getValue G d b σ (fun v1 σ2 => f_o σ2 a1 [34] (fun b => W_J3_length G d b σ2 (fun v5 σ6 => f_o σ6 a1 [34] (fun b => W_J2_isLatin1 G d b σ6 (fun v9 σ10 => ((v9 = 0 → f_sti G 0 (fun v13 => ((v13 = 0 → B_J4_init_2_79 G (d + 1) a0 v1 v5 σ10 Q) ∧ (¬ v13 = 0 → f_gi σ10 a1 [34] 2 (fun v14 => ((v14 = 0 → B_J4_init_2_79 G (d + 1) a0 v1 v5 σ10 Q) ∧ (¬ v14 = 0 → False))))))) ∧ (¬ v9 = 0 → f_p σ10 (some a0) [35] 1 (.int 0) (fun σ17 => W_J8_copyOfRange G d v1 0 v5 σ17 (fun v18 σ19 => f_p σ19 (some a0) [35] 0 (va_rf v18) (fun σ22 => Q σ22)))))))))))) : W_J4_init_2 G (d + 1) a0 a1 a2 σ Q := by
  unfold W_J4_init_2
  refine am_aloadr_n (x := some a0) dJ4_init_2_0 rfl rfl ?_
  refine am_objInit q1538 q304 q305 (Nat.le_of_ble_eq_true rfl) dJ4_init_2_1 ?_
  refine am_aloadr_n (x := a1) dJ4_init_2_4 rfl rfl ?_
  refine fx_callV (Mc := m_J2_getValue) (as := []) (cs := [34]) (r := a1) (f_clsC inf_J3 q1542 f_cls0) bm_J2_getValue q1539 q1540 (Nat.le_of_ble_eq_true rfl) dJ4_init_2_5 h (fun b h => mt_J2_getValue (fx_k2r h (fun v1 σ2 h => ?_) (fun q σ' h => h.elim)))
  refine am_astore_n (x := v1) (L' := [(6, va_rf v1), (0, va_rf (some a0)), (2, va_rf a1), (4, va_rf a2)]) dJ4_init_2_8 rfl (Nat.le_of_ble_eq_true rfl) rfl ?_
  refine am_aloadr_n (x := a1) dJ4_init_2_9 rfl rfl ?_
  refine fx_callVO (Mc := m_J3_length) (as := []) (x := ⟨"java/lang/AbstractStringBuilder", "length", "()I"⟩) (owner := "java/lang/AbstractStringBuilder") (r := a1) inf_J3 q3075 q1448 q1449 q3080 rfl ⟨by decide, by decide⟩ bm_J3_length q1544 q1444 (Nat.le_of_ble_eq_true rfl) dJ4_init_2_10 h (fun b h => mt_J3_length (fx_k2i h (fun v5 σ6 h => ?_) (fun q σ' h => h.elim)))
  refine am_istore (L' := [(8, .int v5), (6, va_rf v1), (0, va_rf (some a0)), (2, va_rf a1), (4, va_rf a2)]) dJ4_init_2_13 (Nat.le_of_ble_eq_true rfl) rfl ?_
  refine am_aloadr_n (x := a1) dJ4_init_2_15 rfl rfl ?_
  refine fx_callV (Mc := m_J2_isLatin1) (as := []) (cs := [34]) (r := a1) (f_clsC inf_J3 q1478 f_cls0) bm_J2_isLatin1 q1545 q1476 (Nat.le_of_ble_eq_true rfl) dJ4_init_2_16 h (fun b h => mt_J2_isLatin1 (fx_k2i h (fun v9 σ10 h => ?_) (fun q σ' h => h.elim)))
  refine am_if_eq (tgt := 41) dJ4_init_2_19 (by decide) (fun c => ?_) (fun c => ?_)
  · have h := h.1 c
    refine fx_sti (i := 0) rfl q1555 dJ4_init_2_41 h (fun v13 h => ?_)
    refine am_if_eq (tgt := 79) dJ4_init_2_44 (by decide) (fun c => ?_) (fun c => ?_)
    · have h := h.1 c
      exact am_lss h rfl
    · have h := h.2 c
      refine am_aloadr_n (x := a1) dJ4_init_2_47 rfl rfl ?_
      refine fx_gi (k := 2) (f_fldC (ref := "java/lang/AbstractStringBuilder") inf_J3 (by decide) q1432 (Or.inl rfl) f_fld0) dJ4_init_2_48 h (fun v14 h => ?_)
      refine am_if_eq (tgt := 79) dJ4_init_2_51 (by decide) (fun c => ?_) (fun c => ?_)
      · have h := h.1 c
        exact am_lss h rfl
      · have h := h.2 c
        refine am_aloadr_n (x := some a0) dJ4_init_2_54 rfl rfl ?_
        refine am_aloadr_n (x := v1) dJ4_init_2_55 rfl rfl ?_
        refine am_iconst (v := 0) dJ4_init_2_56 (by decide) ?_
        refine am_iload (x := v5) dJ4_init_2_57 rfl ?_
        exact h.elim
  · have h := h.2 c
    refine am_aloadr_n (x := some a0) dJ4_init_2_22 rfl rfl ?_
    refine am_iconst (v := 0) dJ4_init_2_23 (by decide) ?_
    refine fx_p (k := 1) (v := .int 0) (f_putC inf_J4 (by decide) rfl rfl q1570 (Or.inr ⟨rfl, rfl, rfl⟩) f_put0) dJ4_init_2_24 h (fun σ17 h => ?_)
    refine am_aloadr_n (x := some a0) dJ4_init_2_27 rfl rfl ?_
    refine am_aloadr_n (x := v1) dJ4_init_2_28 rfl rfl ?_
    refine am_iconst (v := 0) dJ4_init_2_29 (by decide) ?_
    refine am_iload (x := v5) dJ4_init_2_30 rfl ?_
    refine fx_callS (Mc := m_J8_copyOfRange) (as := [va_rf v1, .int 0, .int v5]) bm_J8_copyOfRange q1546 q1547 (Nat.le_of_ble_eq_true rfl) dJ4_init_2_32 (mt_J8_copyOfRange (fx_k2r h (fun v18 σ19 h => ?_) (fun q σ' h => h.elim)))
    refine fx_p (k := 0) (v := va_rf v18) (f_putC inf_J4 (by decide) (f_nra _ _) (f_fra _ _) q1569 (Or.inr ⟨rfl, rfl, rfl⟩) f_put0) dJ4_init_2_35 h (fun σ22 h => ?_)
    refine am_goto (tgt := 97) dJ4_init_2_38 (by decide) ?_
    exact am_vret rfl dJ4_init_2_97 h
theorem B_J4_init_2_79_f {G : am_G} {d : Nat} {a0 : Nat} {x3 : Option Nat} {x4 : Int32} {σ : am_S} {Q : am_S → Prop} (h : f_p σ (some a0) [35] 1 (.int 1) (fun σ1 => W_J8_copyOfRange G d x3 0 (x4 <<< (1 &&& 31)) σ1 (fun v2 σ3 => f_p σ3 (some a0) [35] 0 (va_rf v2) (fun σ6 => Q σ6)))) : B_J4_init_2_79 G (d + 1) a0 x3 x4 σ Q := by
  unfold B_J4_init_2_79
  refine am_aloadr_n (x := some a0) dJ4_init_2_79 rfl rfl ?_
  refine am_iconst (v := 1) dJ4_init_2_80 (by decide) ?_
  refine fx_p (k := 1) (v := .int 1) (f_putC inf_J4 (by decide) rfl rfl q1570 (Or.inr ⟨rfl, rfl, rfl⟩) f_put0) dJ4_init_2_81 h (fun σ1 h => ?_)
  refine am_aloadr_n (x := some a0) dJ4_init_2_84 rfl rfl ?_
  refine am_aloadr_n (x := x3) dJ4_init_2_85 rfl rfl ?_
  refine am_iconst (v := 0) dJ4_init_2_86 (by decide) ?_
  refine am_iload (x := x4) dJ4_init_2_87 rfl ?_
  refine am_iconst (v := 1) dJ4_init_2_89 (by decide) ?_
  refine am_ishl dJ4_init_2_90 ?_
  refine fx_callS (Mc := m_J8_copyOfRange) (as := [va_rf x3, .int 0, .int (x4 <<< (1 &&& 31))]) bm_J8_copyOfRange q1546 q1547 (Nat.le_of_ble_eq_true rfl) dJ4_init_2_91 (mt_J8_copyOfRange (fx_k2r h (fun v2 σ3 h => ?_) (fun q σ' h => h.elim)))
  refine fx_p (k := 0) (v := va_rf v2) (f_putC inf_J4 (by decide) (f_nra _ _) (f_fra _ _) q1569 (Or.inr ⟨rfl, rfl, rfl⟩) f_put0) dJ4_init_2_94 h (fun σ6 h => ?_)
  exact am_vret rfl dJ4_init_2_97 h
theorem W_J4_equals_f {G : am_G} {d : Nat} {a0 : Nat} {a1 : Option Nat} {σ : am_S} {Q : Int32 → am_S → Prop} (h : ((¬ some a0 = a1 → f_Gk G σ a1 (f_Gk G σ a1 (f_sti G 0 (fun v2 => ((v2 = 0 → f_Gr G σ (some a0) 0 (fun v3 => f_Gr G σ a1 0 (fun v4 => W_J9_equals G d v3 v4 σ (fun v5 σ6 => ((v5 = 0 → Q 0 σ6) ∧ (¬ v5 = 0 → Q 1 σ6)))))) ∧ (¬ v2 = 0 → f_Gi G σ (some a0) 1 (fun v9 => f_Gi G σ a1 1 (fun v10 => ((¬ v9 = v10 → Q 0 σ) ∧ (v9 = v10 → f_Gr G σ (some a0) 0 (fun v11 => f_Gr G σ a1 0 (fun v12 => W_J9_equals G d v11 v12 σ (fun v13 σ14 => ((v13 = 0 → Q 0 σ14) ∧ (¬ v13 = 0 → Q 1 σ14))))))))))))))) ∧ (some a0 = a1 → Q 1 σ))) : W_J4_equals G (d + 1) a0 a1 σ Q := by
  unfold W_J4_equals
  refine am_aloadr_n (x := some a0) dJ4_equals_0 rfl rfl ?_
  refine am_aloadr_n (x := a1) dJ4_equals_1 rfl rfl ?_
  refine am_acmp_ne (rx := some a0) (ry := a1) (tgt := 7) dJ4_equals_2 (by decide) (fun c => ?_) (fun c => ?_)
  · have h := h.1 c
    refine am_aloadr_n (x := a1) dJ4_equals_7 rfl rfl ?_
    refine fx_Gis q1587 dJ4_equals_8 h (fun h => ?_)
    refine am_if_eq (tgt := 54) dJ4_equals_11 (by decide) (fun c => ?_) (fun c => ?_)
    · exact absurd c (by decide)
    · refine am_aloadr_n (x := a1) dJ4_equals_14 rfl rfl ?_
      refine fx_Gcc q1587 dJ4_equals_15 h (fun h => ?_)
      refine am_astore_n (x := a1) (L' := [(4, va_rf a1), (0, va_rf (some a0)), (2, va_rf a1)]) dJ4_equals_18 rfl (Nat.le_of_ble_eq_true rfl) rfl ?_
      refine fx_sti (i := 0) rfl q1555 dJ4_equals_19 h (fun v2 h => ?_)
      refine am_if_eq (tgt := 36) dJ4_equals_22 (by decide) (fun c => ?_) (fun c => ?_)
      · have h := h.1 c
        refine am_aloadr_n (x := some a0) dJ4_equals_36 rfl rfl ?_
        refine fx_Gr (k := 0) (f_fldC (ref := "java/lang/String") inf_J4 (by decide) q1569 (Or.inl rfl) f_fld0) (fun e => q1569) dJ4_equals_37 h (fun v3 h => ?_)
        refine am_aloadr_n (x := a1) dJ4_equals_40 rfl rfl ?_
        refine fx_Gr (k := 0) (f_fldC (ref := "java/lang/String") inf_J4 (by decide) q1569 (Or.inl rfl) f_fld0) (fun e => q1569) dJ4_equals_41 h (fun v4 h => ?_)
        refine fx_callS (Mc := m_J9_equals) (as := [va_rf v3, va_rf v4]) bm_J9_equals q1588 q1589 (Nat.le_of_ble_eq_true rfl) dJ4_equals_44 (mt_J9_equals (fx_k2i h (fun v5 σ6 h => ?_) (fun q σ' h => h.elim)))
        refine am_if_eq (tgt := 54) dJ4_equals_47 (by decide) (fun c => ?_) (fun c => ?_)
        · have h := h.1 c
          refine am_iconst (v := 0) dJ4_equals_54 (by decide) ?_
          exact am_zret rfl rfl dJ4_equals_55 h
        · have h := h.2 c
          refine am_iconst (v := 1) dJ4_equals_50 (by decide) ?_
          refine am_goto (tgt := 55) dJ4_equals_51 (by decide) ?_
          exact am_zret rfl rfl dJ4_equals_55 h
      · have h := h.2 c
        refine am_aloadr_n (x := some a0) dJ4_equals_25 rfl rfl ?_
        refine fx_Gi (k := 1) (f_fldC (ref := "java/lang/String") inf_J4 (by decide) q1570 (Or.inl rfl) f_fld0) (fun e => q1570) dJ4_equals_26 h (fun v9 h => ?_)
        refine am_aloadr_n (x := a1) dJ4_equals_29 rfl rfl ?_
        refine fx_Gi (k := 1) (f_fldC (ref := "java/lang/String") inf_J4 (by decide) q1570 (Or.inl rfl) f_fld0) (fun e => q1570) dJ4_equals_30 h (fun v10 h => ?_)
        refine am_icmp_ne (tgt := 54) dJ4_equals_33 (by decide) (fun c => ?_) (fun c => ?_)
        · have h := h.1 c
          refine am_iconst (v := 0) dJ4_equals_54 (by decide) ?_
          exact am_zret rfl rfl dJ4_equals_55 h
        · have h := h.2 c
          refine am_aloadr_n (x := some a0) dJ4_equals_36 rfl rfl ?_
          refine fx_Gr (k := 0) (f_fldC (ref := "java/lang/String") inf_J4 (by decide) q1569 (Or.inl rfl) f_fld0) (fun e => q1569) dJ4_equals_37 h (fun v11 h => ?_)
          refine am_aloadr_n (x := a1) dJ4_equals_40 rfl rfl ?_
          refine fx_Gr (k := 0) (f_fldC (ref := "java/lang/String") inf_J4 (by decide) q1569 (Or.inl rfl) f_fld0) (fun e => q1569) dJ4_equals_41 h (fun v12 h => ?_)
          refine fx_callS (Mc := m_J9_equals) (as := [va_rf v11, va_rf v12]) bm_J9_equals q1588 q1589 (Nat.le_of_ble_eq_true rfl) dJ4_equals_44 (mt_J9_equals (fx_k2i h (fun v13 σ14 h => ?_) (fun q σ' h => h.elim)))
          refine am_if_eq (tgt := 54) dJ4_equals_47 (by decide) (fun c => ?_) (fun c => ?_)
          · have h := h.1 c
            refine am_iconst (v := 0) dJ4_equals_54 (by decide) ?_
            exact am_zret rfl rfl dJ4_equals_55 h
          · have h := h.2 c
            refine am_iconst (v := 1) dJ4_equals_50 (by decide) ?_
            refine am_goto (tgt := 55) dJ4_equals_51 (by decide) ?_
            exact am_zret rfl rfl dJ4_equals_55 h
  · have h := h.2 c
    refine am_iconst (v := 1) dJ4_equals_5 (by decide) ?_
    exact am_zret rfl rfl dJ4_equals_6 h
theorem W_J4_indexOf_f {G : am_G} {d : Nat} {a0 : Nat} {a1 : Int32} {σ : am_S} {Q : Int32 → am_S → Prop} (h : f_Go G σ (some a0) (fun b => W_J4_indexOf_2 G d b a1 0 σ (fun v1 σ2 => Q v1 σ2))) : W_J4_indexOf G (d + 1) a0 a1 σ Q := by
  unfold W_J4_indexOf
  refine am_aloadr_n (x := some a0) dJ4_indexOf_0 rfl rfl ?_
  refine am_iload_n (x := a1) dJ4_indexOf_1 rfl rfl ?_
  refine am_iconst (v := 0) dJ4_indexOf_2 (by decide) ?_
  refine fx_callGo (Mc := m_J4_indexOf_2) (as := [.int a1, .int 0]) (r := (some a0)) q1614 bm_J4_indexOf_2 q1612 q1613 (Nat.le_of_ble_eq_true rfl) dJ4_indexOf_3 h (fun b h => mt_J4_indexOf_2 (fx_k2i h (fun v1 σ2 h => ?_) (fun q σ' h => h.elim)))
  exact am_iret rfl dJ4_indexOf_6 h
theorem W_J4_indexOf_2_f {G : am_G} {d : Nat} {a0 : Nat} {a1 : Int32} {a2 : Int32} {σ : am_S} {Q : Int32 → am_S → Prop} (h : f_Go G σ (some a0) (fun b => W_J4_isLatin1 G d b σ (fun v1 σ2 => ((v1 = 0 → f_Gr G σ2 (some a0) 0 (fun v5 => f_Go G σ2 (some a0) (fun b => W_J4_length G d b σ2 (fun v6 σ7 => False)))) ∧ (¬ v1 = 0 → f_Gr G σ2 (some a0) 0 (fun v12 => f_Go G σ2 (some a0) (fun b => W_J4_length G d b σ2 (fun v13 σ14 => W_J9_indexOf G d v12 a1 a2 v13 σ14 (fun v17 σ18 => Q v17 σ18))))))))) : W_J4_indexOf_2 G (d + 1) a0 a1 a2 σ Q := by
  unfold W_J4_indexOf_2
  refine am_aloadr_n (x := some a0) dJ4_indexOf_2_0 rfl rfl ?_
  refine fx_callGo (Mc := m_J4_isLatin1) (as := []) (r := (some a0)) q1618 bm_J4_isLatin1 q1616 q1617 (Nat.le_of_ble_eq_true rfl) dJ4_indexOf_2_1 h (fun b h => mt_J4_isLatin1 (fx_k2i h (fun v1 σ2 h => ?_) (fun q σ' h => h.elim)))
  refine am_if_eq (tgt := 23) dJ4_indexOf_2_4 (by decide) (fun c => ?_) (fun c => ?_)
  · have h := h.1 c
    refine am_aloadr_n (x := some a0) dJ4_indexOf_2_23 rfl rfl ?_
    refine fx_Gr (k := 0) (f_fldC (ref := "java/lang/String") inf_J4 (by decide) q1569 (Or.inl rfl) f_fld0) (fun e => q1569) dJ4_indexOf_2_24 h (fun v5 h => ?_)
    refine am_iload_n (x := a1) dJ4_indexOf_2_27 rfl rfl ?_
    refine am_iload_n (x := a2) dJ4_indexOf_2_28 rfl rfl ?_
    refine am_aloadr_n (x := some a0) dJ4_indexOf_2_29 rfl rfl ?_
    refine fx_callGo (Mc := m_J4_length) (as := []) (r := (some a0)) q1622 bm_J4_length q1620 q1621 (Nat.le_of_ble_eq_true rfl) dJ4_indexOf_2_30 h (fun b h => mt_J4_length (fx_k2i h (fun v6 σ7 h => ?_) (fun q σ' h => h.elim)))
    exact h.elim
  · have h := h.2 c
    refine am_aloadr_n (x := some a0) dJ4_indexOf_2_7 rfl rfl ?_
    refine fx_Gr (k := 0) (f_fldC (ref := "java/lang/String") inf_J4 (by decide) q1569 (Or.inl rfl) f_fld0) (fun e => q1569) dJ4_indexOf_2_8 h (fun v12 h => ?_)
    refine am_iload_n (x := a1) dJ4_indexOf_2_11 rfl rfl ?_
    refine am_iload_n (x := a2) dJ4_indexOf_2_12 rfl rfl ?_
    refine am_aloadr_n (x := some a0) dJ4_indexOf_2_13 rfl rfl ?_
    refine fx_callGo (Mc := m_J4_length) (as := []) (r := (some a0)) q1622 bm_J4_length q1620 q1621 (Nat.le_of_ble_eq_true rfl) dJ4_indexOf_2_14 h (fun b h => mt_J4_length (fx_k2i h (fun v13 σ14 h => ?_) (fun q σ' h => h.elim)))
    refine fx_callS (Mc := m_J9_indexOf) (as := [va_rf v12, .int a1, .int a2, .int v13]) bm_J9_indexOf q1628 q1629 (Nat.le_of_ble_eq_true rfl) dJ4_indexOf_2_17 (mt_J9_indexOf (fx_k2i h (fun v17 σ18 h => ?_) (fun q σ' h => h.elim)))
    refine am_goto (tgt := 36) dJ4_indexOf_2_20 (by decide) ?_
    exact am_iret rfl dJ4_indexOf_2_36 h
theorem W_J4_isLatin1_f {G : am_G} {d : Nat} {a0 : Nat} {σ : am_S} {Q : Int32 → am_S → Prop} (h : f_sti G 0 (fun v1 => ((v1 = 0 → Q 0 σ) ∧ (¬ v1 = 0 → f_Gi G σ (some a0) 1 (fun v2 => ((¬ v2 = 0 → Q 0 σ) ∧ (v2 = 0 → Q 1 σ))))))) : W_J4_isLatin1 G d a0 σ Q := by
  unfold W_J4_isLatin1
  refine fx_sti (i := 0) rfl q1555 dJ4_isLatin1_0 h (fun v1 h => ?_)
  refine am_if_eq (tgt := 17) dJ4_isLatin1_3 (by decide) (fun c => ?_) (fun c => ?_)
  · have h := h.1 c
    refine am_iconst (v := 0) dJ4_isLatin1_17 (by decide) ?_
    exact am_zret rfl rfl dJ4_isLatin1_18 h
  · have h := h.2 c
    refine am_aloadr_n (x := some a0) dJ4_isLatin1_6 rfl rfl ?_
    refine fx_Gi (k := 1) (f_fldC (ref := "java/lang/String") inf_J4 (by decide) q1570 (Or.inl rfl) f_fld0) (fun e => q1570) dJ4_isLatin1_7 h (fun v2 h => ?_)
    refine am_if_ne (tgt := 17) dJ4_isLatin1_10 (by decide) (fun c => ?_) (fun c => ?_)
    · have h := h.1 c
      refine am_iconst (v := 0) dJ4_isLatin1_17 (by decide) ?_
      exact am_zret rfl rfl dJ4_isLatin1_18 h
    · have h := h.2 c
      refine am_iconst (v := 1) dJ4_isLatin1_13 (by decide) ?_
      refine am_goto (tgt := 18) dJ4_isLatin1_14 (by decide) ?_
      exact am_zret rfl rfl dJ4_isLatin1_18 h
theorem W_J4_length_f {G : am_G} {d : Nat} {a0 : Nat} {σ : am_S} {Q : Int32 → am_S → Prop} (h : f_Gr G σ (some a0) 0 (fun v1 => f_Gal G σ v1 1 (fun v2 => f_Go G σ (some a0) (fun b => W_J4_coder G d b σ (fun v3 σ4 => Q (v2 >>> (v3 &&& 31)) σ4))))) : W_J4_length G (d + 1) a0 σ Q := by
  unfold W_J4_length
  refine am_aloadr_n (x := some a0) dJ4_length_0 rfl rfl ?_
  refine fx_Gr (k := 0) (f_fldC (ref := "java/lang/String") inf_J4 (by decide) q1569 (Or.inl rfl) f_fld0) (fun e => q1569) dJ4_length_1 h (fun v1 h => ?_)
  refine fx_Gal (τ := 1) rfl dJ4_length_4 h (fun v2 h => ?_)
  refine am_aloadr_n (x := some a0) dJ4_length_5 rfl rfl ?_
  refine fx_callGo (Mc := m_J4_coder) (as := []) (r := (some a0)) q1626 bm_J4_coder q1624 q1625 (Nat.le_of_ble_eq_true rfl) dJ4_length_6 h (fun b h => mt_J4_coder (fx_k2i h (fun v3 σ4 h => ?_) (fun q σ' h => h.elim)))
  refine am_ishr dJ4_length_9 ?_
  exact am_iret rfl dJ4_length_10 h
theorem W_J4_coder_f {G : am_G} {d : Nat} {a0 : Nat} {σ : am_S} {Q : Int32 → am_S → Prop} (h : f_sti G 0 (fun v1 => ((v1 = 0 → Q 1 σ) ∧ (¬ v1 = 0 → f_Gi G σ (some a0) 1 (fun v2 => (narrow .byte (.int v2) = .int v2 ∧ Q v2 σ)))))) : W_J4_coder G d a0 σ Q := by
  unfold W_J4_coder
  refine fx_sti (i := 0) rfl q1555 dJ4_coder_0 h (fun v1 h => ?_)
  refine am_if_eq (tgt := 13) dJ4_coder_3 (by decide) (fun c => ?_) (fun c => ?_)
  · have h := h.1 c
    refine am_iconst (v := 1) dJ4_coder_13 (by decide) ?_
    exact am_zret rfl rfl dJ4_coder_14 h
  · have h := h.2 c
    refine am_aloadr_n (x := some a0) dJ4_coder_6 rfl rfl ?_
    refine fx_Gi (k := 1) (f_fldC (ref := "java/lang/String") inf_J4 (by decide) q1570 (Or.inl rfl) f_fld0) (fun e => q1570) dJ4_coder_7 h (fun v2 h => ?_)
    refine am_goto (tgt := 14) dJ4_coder_10 (by decide) ?_
    exact am_zret rfl h.1 dJ4_coder_14 h.2
theorem W_J6_newLength_f {G : am_G} {d : Nat} {a1 : Int32} {a2 : Int32} {a3 : Int32} {σ : am_S} {Q : Int32 → am_S → Prop} (h : W_J7_max G d a2 a3 σ (fun v1 σ2 => (((a1 + v1) ≤ 0 → False) ∧ (¬ (a1 + v1) ≤ 0 → ((2147483639 < (a1 + v1) → False) ∧ (¬ 2147483639 < (a1 + v1) → Q (a1 + v1) σ2)))))) : W_J6_newLength G (d + 1) a1 a2 a3 σ Q := by
  unfold W_J6_newLength
  refine am_iload_n (x := a1) dJ6_newLength_0 rfl rfl ?_
  refine am_iload_n (x := a2) dJ6_newLength_1 rfl rfl ?_
  refine am_iload_n (x := a3) dJ6_newLength_2 rfl rfl ?_
  refine fx_callS (Mc := m_J7_max) (as := [.int a2, .int a3]) bm_J7_max q647 q648 (Nat.le_of_ble_eq_true rfl) dJ6_newLength_3 (mt_J7_max (fx_k2i h (fun v1 σ2 h => ?_) (fun q σ' h => h.elim)))
  refine am_iadd dJ6_newLength_6 ?_
  refine am_istore_n (L' := [(6, .int (a1 + v1)), (0, .int a1), (2, .int a2), (4, .int a3)]) dJ6_newLength_7 rfl (Nat.le_of_ble_eq_true rfl) rfl ?_
  refine am_iconst (v := 0) dJ6_newLength_8 (by decide) ?_
  refine am_iload_n (x := (a1 + v1)) dJ6_newLength_9 rfl rfl ?_
  refine am_icmp_ge (tgt := 21) dJ6_newLength_10 (by decide) (fun c => ?_) (fun c => ?_)
  · have h := h.1 c
    refine am_iload_n (x := a1) dJ6_newLength_21 rfl rfl ?_
    refine am_iload_n (x := a2) dJ6_newLength_22 rfl rfl ?_
    exact h.elim
  · have h := h.2 c
    refine am_iload_n (x := (a1 + v1)) dJ6_newLength_13 rfl rfl ?_
    refine am_ldc q650 dJ6_newLength_14 ?_
    refine am_icmp_gt (tgt := 21) dJ6_newLength_16 (by decide) (fun c => ?_) (fun c => ?_)
    · have h := h.1 c
      refine am_iload_n (x := a1) dJ6_newLength_21 rfl rfl ?_
      refine am_iload_n (x := a2) dJ6_newLength_22 rfl rfl ?_
      exact h.elim
    · have h := h.2 c
      refine am_iload_n (x := (a1 + v1)) dJ6_newLength_19 rfl rfl ?_
      exact am_iret rfl dJ6_newLength_20 h
theorem W_J7_max_f {G : am_G} {d : Nat} {a1 : Int32} {a2 : Int32} {σ : am_S} {Q : Int32 → am_S → Prop} (h : ((a1 < a2 → Q a2 σ) ∧ (¬ a1 < a2 → Q a1 σ))) : W_J7_max G d a1 a2 σ Q := by
  unfold W_J7_max
  refine am_iload_n (x := a1) dJ7_max_0 rfl rfl ?_
  refine am_iload_n (x := a2) dJ7_max_1 rfl rfl ?_
  refine am_icmp_lt (tgt := 9) dJ7_max_2 (by decide) (fun c => ?_) (fun c => ?_)
  · have h := h.1 c
    refine am_iload_n (x := a2) dJ7_max_9 rfl rfl ?_
    exact am_iret rfl dJ7_max_10 h
  · have h := h.2 c
    refine am_iload_n (x := a1) dJ7_max_5 rfl rfl ?_
    refine am_goto (tgt := 10) dJ7_max_6 (by decide) ?_
    exact am_iret rfl dJ7_max_10 h
theorem W_J7_min_f {G : am_G} {d : Nat} {a1 : Int32} {a2 : Int32} {σ : am_S} {Q : Int32 → am_S → Prop} (h : ((a2 < a1 → Q a2 σ) ∧ (¬ a2 < a1 → Q a1 σ))) : W_J7_min G d a1 a2 σ Q := by
  unfold W_J7_min
  refine am_iload_n (x := a1) dJ7_min_0 rfl rfl ?_
  refine am_iload_n (x := a2) dJ7_min_1 rfl rfl ?_
  refine am_icmp_gt (tgt := 9) dJ7_min_2 (by decide) (fun c => ?_) (fun c => ?_)
  · have h := h.1 c
    refine am_iload_n (x := a2) dJ7_min_9 rfl rfl ?_
    exact am_iret rfl dJ7_min_10 h
  · have h := h.2 c
    refine am_iload_n (x := a1) dJ7_min_5 rfl rfl ?_
    refine am_goto (tgt := 10) dJ7_min_6 (by decide) ?_
    exact am_iret rfl dJ7_min_10 h
theorem W_J8_fill_f {G : am_G} {d : Nat} {a1 : Option Nat} {a2 : Int32} {σ : am_S} {Q : am_S → Prop} (h : f_al σ a1 0 (fun v1 => B_J8_fill_5 G d a1 a2 0 v1 σ Q)) : W_J8_fill G d a1 a2 σ Q := by
  unfold W_J8_fill
  refine am_iconst (v := 0) dJ8_fill_0 (by decide) ?_
  refine am_istore_n (L' := [(4, .int 0), (0, va_rf a1), (2, .int a2)]) dJ8_fill_1 rfl (Nat.le_of_ble_eq_true rfl) rfl ?_
  refine am_aloadr_n (x := a1) dJ8_fill_2 rfl rfl ?_
  refine fx_al (τ := 0) rfl dJ8_fill_3 h (fun v1 h => ?_)
  refine am_istore_n (L' := [(6, .int v1), (4, .int 0), (0, va_rf a1), (2, .int a2)]) dJ8_fill_4 rfl (Nat.le_of_ble_eq_true rfl) rfl ?_
  exact am_lss h rfl
theorem B_J8_fill_5_f {G : am_G} {d : Nat} {x0 : Option Nat} {x1 : Int32} {x2 : Int32} {x3 : Int32} {σ : am_S} {Q : am_S → Prop} (h : ((x3 ≤ x2 → Q σ) ∧ (¬ x3 ≤ x2 → f_si σ x0 0 x2 x1 (fun σ1 => B_J8_fill_5 G d x0 x1 (x2 + 1) x3 σ1 Q)))) : B_J8_fill_5 G d x0 x1 x2 x3 σ Q := by
  unfold B_J8_fill_5
  refine am_iload_n (x := x2) dJ8_fill_5 rfl rfl ?_
  refine am_iload_n (x := x3) dJ8_fill_6 rfl rfl ?_
  refine am_icmp_ge (tgt := 20) dJ8_fill_7 (by decide) (fun c => ?_) (fun c => ?_)
  · have h := h.1 c
    exact am_vret rfl dJ8_fill_20 h
  · have h := h.2 c
    refine am_aloadr_n (x := x0) dJ8_fill_10 rfl rfl ?_
    refine am_iload_n (x := x2) dJ8_fill_11 rfl rfl ?_
    refine am_iload_n (x := x1) dJ8_fill_12 rfl rfl ?_
    refine fx_si0 dJ8_fill_13 h (fun σ1 h => ?_)
    refine am_iinc (x := x2) (v := (x2 + 1)) (L' := [(4, .int (x2 + 1)), (0, va_rf x0), (2, .int x1), (6, .int x3)]) dJ8_fill_14 rfl rfl (Nat.le_of_ble_eq_true rfl) rfl ?_
    refine am_goto (tgt := 5) dJ8_fill_17 (by decide) ?_
    exact am_lss h rfl
theorem W_J8_copyOf_f {G : am_G} {d : Nat} {a1 : Option Nat} {a2 : Int32} {σ : am_S} {Q : Option Nat → am_S → Prop} (h : f_gc G σ a1 (fun v1 => W_J8_copyOf_2 G d a1 a2 v1 σ (fun v2 σ3 => Q v2 σ3))) : W_J8_copyOf G (d + 1) a1 a2 σ Q := by
  unfold W_J8_copyOf
  refine am_aloadr_n (x := a1) dJ8_copyOf_0 rfl rfl ?_
  refine am_iload_n (x := a2) dJ8_copyOf_1 rfl rfl ?_
  refine am_aloadr_n (x := a1) dJ8_copyOf_2 rfl rfl ?_
  refine fx_gc q657 q3138 q3137 q658 q696 (Nat.le_of_ble_eq_true rfl) dJ8_copyOf_3 h (fun v1 h => ?_)
  refine fx_callS (Mc := m_J8_copyOf_2) (as := [va_rf a1, .int a2, va_rf v1]) bm_J8_copyOf_2 q697 q698 (Nat.le_of_ble_eq_true rfl) dJ8_copyOf_6 (mt_J8_copyOf_2 (fx_k2r h (fun v2 σ3 h => ?_) (fun q σ' h => h.elim)))
  exact fx_aret rfl rfl dJ8_copyOf_9 h
theorem W_J8_copyOf_2_f {G : am_G} {d : Nat} {a1 : Option Nat} {a2 : Int32} {a3 : Option Nat} {σ : am_S} {Q : Option Nat → am_S → Prop} (h : ((¬ a3 = (some (am_sk G 23)) → False) ∧ (a3 = (some (am_sk G 23)) → f_na G σ 16 f_a0r a2 (fun n1 σ2 => B_J8_copyOf_2_24 G (d + 1) a1 a2 (some n1) σ2 Q)))) : W_J8_copyOf_2 G (d + 1) a1 a2 a3 σ Q := by
  unfold W_J8_copyOf_2
  refine am_aloadr_n (x := a3) dJ8_copyOf_2_0 rfl rfl ?_
  refine am_ldcM q700 dJ8_copyOf_2_1 ?_
  refine am_acmp_ne (rx := a3) (ry := (some (am_sk G 23))) (tgt := 13) dJ8_copyOf_2_3 (by decide) (fun c => ?_) (fun c => ?_)
  · have h := h.1 c
    refine am_aloadr_n (x := a3) dJ8_copyOf_2_13 rfl rfl ?_
    exact h.elim
  · have h := h.2 c
    refine am_iload_n (x := a2) dJ8_copyOf_2_6 rfl rfl ?_
    refine fx_nar (τ := 16) q702 q701 rfl dJ8_copyOf_2_7 h (fun n1 σ2 h => ?_)
    refine am_goto (tgt := 24) dJ8_copyOf_2_10 (by decide) ?_
    exact am_lss h rfl
theorem B_J8_copyOf_2_24_f {G : am_G} {d : Nat} {x0 : Option Nat} {x1 : Int32} {s0 : Option Nat} {σ : am_S} {Q : Option Nat → am_S → Prop} (h : f_al σ x0 16 (fun v1 => W_J7_min G d v1 x1 σ (fun v2 σ3 => f_cpr σ3 x0 0 s0 0 v2 16 [8, 9, 25, 26, 27, 28, 29, 30] (fun σ6 => Q s0 σ6)))) : B_J8_copyOf_2_24 G (d + 1) x0 x1 s0 σ Q := by
  unfold B_J8_copyOf_2_24
  refine am_astore_n (x := s0) (L' := [(6, va_rf s0), (0, va_rf x0), (2, .int x1)]) dJ8_copyOf_2_24 rfl (Nat.le_of_ble_eq_true rfl) rfl ?_
  refine am_aloadr_n (x := x0) dJ8_copyOf_2_25 rfl rfl ?_
  refine am_iconst (v := 0) dJ8_copyOf_2_26 (by decide) ?_
  refine am_aloadr_n (x := s0) dJ8_copyOf_2_27 rfl rfl ?_
  refine am_iconst (v := 0) dJ8_copyOf_2_28 (by decide) ?_
  refine am_aloadr_n (x := x0) dJ8_copyOf_2_29 rfl rfl ?_
  refine fx_al (τ := 16) rfl dJ8_copyOf_2_30 h (fun v1 h => ?_)
  refine am_iload_n (x := x1) dJ8_copyOf_2_31 rfl rfl ?_
  refine fx_callS (Mc := m_J7_min) (as := [.int v1, .int x1]) bm_J7_min q703 q704 (Nat.le_of_ble_eq_true rfl) dJ8_copyOf_2_32 (mt_J7_min (fx_k2i h (fun v2 σ3 h => ?_) (fun q σ' h => h.elim)))
  refine fx_cpr (τ := 16) (E := "java/lang/Object") (cs := [8, 9, 25, 26, 27, 28, 29, 30]) q706 q623 q622 q177 rfl (am_mayL (f_clsC inf_X8 (Or.inr q3107) (f_clsC inf_X9 (Or.inr q3108) (f_clsC inf_X28 (Or.inr q3119) (f_clsC inf_X29 (Or.inr q3120) (f_clsC inf_X30 (Or.inr q3121) (f_clsC inf_X31 (Or.inr q3122) (f_clsC inf_X32 (Or.inr q3123) (f_clsC inf_X33 (Or.inr q3124) f_cls0))))))))) (Nat.le_of_ble_eq_true rfl) dJ8_copyOf_2_35 h (fun σ6 h => ?_)
  refine am_aloadr_n (x := s0) dJ8_copyOf_2_38 rfl rfl ?_
  exact fx_aret rfl rfl dJ8_copyOf_2_39 h
theorem W_J8_copyOf_3_f {G : am_G} {d : Nat} {a1 : Option Nat} {a2 : Int32} {σ : am_S} {Q : Option Nat → am_S → Prop} (h : f_al σ a1 0 (fun v1 => ((¬ a2 = v1 → f_na G σ 0 f_a0i a2 (fun n2 σ3 => f_al σ3 a1 0 (fun v4 => W_J7_min G d v4 a2 σ3 (fun v5 σ6 => f_cpi σ6 a1 0 (some n2) 0 v5 0 .int (fun σ9 => Q (some n2) σ9))))) ∧ (a2 = v1 → f_cl G σ a1 0 (fun n10 σ11 => f_ca σ11 (some n10) 0 (Q (some n10) σ11)))))) : W_J8_copyOf_3 G (d + 1) a1 a2 σ Q := by
  unfold W_J8_copyOf_3
  refine am_iload_n (x := a2) dJ8_copyOf_3_0 rfl rfl ?_
  refine am_aloadr_n (x := a1) dJ8_copyOf_3_1 rfl rfl ?_
  refine fx_al (τ := 0) rfl dJ8_copyOf_3_2 h (fun v1 h => ?_)
  refine am_icmp_ne (tgt := 14) dJ8_copyOf_3_3 (by decide) (fun c => ?_) (fun c => ?_)
  · have h := h.1 c
    refine am_iload_n (x := a2) dJ8_copyOf_3_14 rfl rfl ?_
    refine fx_nai (atype := .int) (τ := 0) q281 rfl (fun N cA => rfl) dJ8_copyOf_3_15 h (fun n2 σ3 h => ?_)
    refine am_astore_n (x := (some n2)) (L' := [(4, va_rf (some n2)), (0, va_rf a1), (2, .int a2)]) dJ8_copyOf_3_17 rfl (Nat.le_of_ble_eq_true rfl) rfl ?_
    refine am_aloadr_n (x := a1) dJ8_copyOf_3_18 rfl rfl ?_
    refine am_iconst (v := 0) dJ8_copyOf_3_19 (by decide) ?_
    refine am_aloadr_n (x := (some n2)) dJ8_copyOf_3_20 rfl rfl ?_
    refine am_iconst (v := 0) dJ8_copyOf_3_21 (by decide) ?_
    refine am_aloadr_n (x := a1) dJ8_copyOf_3_22 rfl rfl ?_
    refine fx_al (τ := 0) rfl dJ8_copyOf_3_23 h (fun v4 h => ?_)
    refine am_iload_n (x := a2) dJ8_copyOf_3_24 rfl rfl ?_
    refine fx_callS (Mc := m_J7_min) (as := [.int v4, .int a2]) bm_J7_min q703 q704 (Nat.le_of_ble_eq_true rfl) dJ8_copyOf_3_25 (mt_J7_min (fx_k2i h (fun v5 σ6 h => ?_) (fun q σ' h => h.elim)))
    refine fx_cpi (τ := 0) q706 q623 q622 q177 rfl rfl (Nat.le_of_ble_eq_true rfl) dJ8_copyOf_3_28 h (fun σ9 h => ?_)
    refine am_aloadr_n (x := (some n2)) dJ8_copyOf_3_31 rfl rfl ?_
    exact fx_aret rfl rfl dJ8_copyOf_3_32 h
  · have h := h.2 c
    refine am_aloadr_n (x := a1) dJ8_copyOf_3_6 rfl rfl ?_
    refine fx_cl (τ := 0) (ad := "[I") rfl (fun s h => va_nm_int h) rfl q873 q874 q875 q876 q877 q878 (Nat.le_of_ble_eq_true rfl) dJ8_copyOf_3_7 h (fun n10 σ11 h => ?_)
    refine fx_ca (τ := 0) rfl (fun s h => va_nm_int h) q879 dJ8_copyOf_3_10 h (fun h => ?_)
    exact fx_aret rfl rfl dJ8_copyOf_3_13 h
theorem W_J8_copyOfRange_f {G : am_G} {d : Nat} {a1 : Option Nat} {a2 : Int32} {a3 : Int32} {σ : am_S} {Q : Option Nat → am_S → Prop} (h : ((¬ a2 = 0 → W_J8_copyOfRangeByte G d a1 a2 a3 σ (fun v1 σ2 => Q v1 σ2)) ∧ (a2 = 0 → f_al σ a1 1 (fun v5 => ((a3 = v5 → False) ∧ (¬ a3 = v5 → W_J8_copyOfRangeByte G d a1 a2 a3 σ (fun v6 σ7 => Q v6 σ7))))))) : W_J8_copyOfRange G (d + 1) a1 a2 a3 σ Q := by
  unfold W_J8_copyOfRange
  refine am_iload_n (x := a2) dJ8_copyOfRange_0 rfl rfl ?_
  refine am_if_ne (tgt := 10) dJ8_copyOfRange_1 (by decide) (fun c => ?_) (fun c => ?_)
  · have h := h.1 c
    refine am_aloadr_n (x := a1) dJ8_copyOfRange_10 rfl rfl ?_
    refine am_iload_n (x := a2) dJ8_copyOfRange_11 rfl rfl ?_
    refine am_iload_n (x := a3) dJ8_copyOfRange_12 rfl rfl ?_
    refine fx_callS (Mc := m_J8_copyOfRangeByte) (as := [va_rf a1, .int a2, .int a3]) bm_J8_copyOfRangeByte q1549 q1550 (Nat.le_of_ble_eq_true rfl) dJ8_copyOfRange_13 (mt_J8_copyOfRangeByte (fx_k2r h (fun v1 σ2 h => ?_) (fun q σ' h => h.elim)))
    exact fx_aret rfl rfl dJ8_copyOfRange_16 h
  · have h := h.2 c
    refine am_iload_n (x := a3) dJ8_copyOfRange_4 rfl rfl ?_
    refine am_aloadr_n (x := a1) dJ8_copyOfRange_5 rfl rfl ?_
    refine fx_al (τ := 1) rfl dJ8_copyOfRange_6 h (fun v5 h => ?_)
    refine am_icmp_eq (tgt := 17) dJ8_copyOfRange_7 (by decide) (fun c => ?_) (fun c => ?_)
    · have h := h.1 c
      refine am_aloadr_n (x := a1) dJ8_copyOfRange_17 rfl rfl ?_
      exact h.elim
    · have h := h.2 c
      refine am_aloadr_n (x := a1) dJ8_copyOfRange_10 rfl rfl ?_
      refine am_iload_n (x := a2) dJ8_copyOfRange_11 rfl rfl ?_
      refine am_iload_n (x := a3) dJ8_copyOfRange_12 rfl rfl ?_
      refine fx_callS (Mc := m_J8_copyOfRangeByte) (as := [va_rf a1, .int a2, .int a3]) bm_J8_copyOfRangeByte q1549 q1550 (Nat.le_of_ble_eq_true rfl) dJ8_copyOfRange_13 (mt_J8_copyOfRangeByte (fx_k2r h (fun v6 σ7 h => ?_) (fun q σ' h => h.elim)))
      exact fx_aret rfl rfl dJ8_copyOfRange_16 h
theorem W_J8_copyOfRangeByte_f {G : am_G} {d : Nat} {a1 : Option Nat} {a2 : Int32} {a3 : Int32} {σ : am_S} {Q : Option Nat → am_S → Prop} (h : W_J8_checkLength G d a2 a3 σ (fun σ2 => f_na G σ2 1 f_a0i (a3 - a2) (fun n5 σ6 => f_al σ6 a1 1 (fun v7 => W_J7_min G d (v7 - a2) (a3 - a2) σ6 (fun v8 σ9 => f_cpi σ9 a1 a2 (some n5) 0 v8 1 .byte (fun σ12 => Q (some n5) σ12)))))) : W_J8_copyOfRangeByte G (d + 1) a1 a2 a3 σ Q := by
  unfold W_J8_copyOfRangeByte
  refine am_iload_n (x := a2) dJ8_copyOfRangeByte_0 rfl rfl ?_
  refine am_iload_n (x := a3) dJ8_copyOfRangeByte_1 rfl rfl ?_
  refine fx_callS (Mc := m_J8_checkLength) (as := [.int a2, .int a3]) bm_J8_checkLength q1552 q1553 (Nat.le_of_ble_eq_true rfl) dJ8_copyOfRangeByte_2 (mt_J8_checkLength (fx_k2v h (fun σ2 h => ?_) (fun q σ' h => h.elim)))
  refine am_iload_n (x := a3) dJ8_copyOfRangeByte_5 rfl rfl ?_
  refine am_iload_n (x := a2) dJ8_copyOfRangeByte_6 rfl rfl ?_
  refine am_isub dJ8_copyOfRangeByte_7 ?_
  refine am_istore_n (L' := [(6, .int (a3 - a2)), (0, va_rf a1), (2, .int a2), (4, .int a3)]) dJ8_copyOfRangeByte_8 rfl (Nat.le_of_ble_eq_true rfl) rfl ?_
  refine am_iload_n (x := (a3 - a2)) dJ8_copyOfRangeByte_9 rfl rfl ?_
  refine fx_nai (atype := .byte) (τ := 1) q1151 rfl (fun N cA => rfl) dJ8_copyOfRangeByte_10 h (fun n5 σ6 h => ?_)
  refine am_astore (x := (some n5)) (L' := [(8, va_rf (some n5)), (6, .int (a3 - a2)), (0, va_rf a1), (2, .int a2), (4, .int a3)]) dJ8_copyOfRangeByte_12 (Nat.le_of_ble_eq_true rfl) rfl ?_
  refine am_aloadr_n (x := a1) dJ8_copyOfRangeByte_14 rfl rfl ?_
  refine am_iload_n (x := a2) dJ8_copyOfRangeByte_15 rfl rfl ?_
  refine am_aloadr (x := (some n5)) dJ8_copyOfRangeByte_16 rfl ?_
  refine am_iconst (v := 0) dJ8_copyOfRangeByte_18 (by decide) ?_
  refine am_aloadr_n (x := a1) dJ8_copyOfRangeByte_19 rfl rfl ?_
  refine fx_al (τ := 1) rfl dJ8_copyOfRangeByte_20 h (fun v7 h => ?_)
  refine am_iload_n (x := a2) dJ8_copyOfRangeByte_21 rfl rfl ?_
  refine am_isub dJ8_copyOfRangeByte_22 ?_
  refine am_iload_n (x := (a3 - a2)) dJ8_copyOfRangeByte_23 rfl rfl ?_
  refine fx_callS (Mc := m_J7_min) (as := [.int (v7 - a2), .int (a3 - a2)]) bm_J7_min q703 q704 (Nat.le_of_ble_eq_true rfl) dJ8_copyOfRangeByte_24 (mt_J7_min (fx_k2i h (fun v8 σ9 h => ?_) (fun q σ' h => h.elim)))
  refine fx_cpi (τ := 1) q706 q623 q622 q177 rfl rfl (Nat.le_of_ble_eq_true rfl) dJ8_copyOfRangeByte_27 h (fun σ12 h => ?_)
  refine am_aloadr (x := (some n5)) dJ8_copyOfRangeByte_30 rfl ?_
  exact fx_aret rfl rfl dJ8_copyOfRangeByte_32 h
theorem W_J8_checkLength_f {G : am_G} {d : Nat} {a1 : Int32} {a2 : Int32} {σ : am_S} {Q : am_S → Prop} (h : ((a1 ≤ a2 → Q σ) ∧ (¬ a1 ≤ a2 → False))) : W_J8_checkLength G (d + 1) a1 a2 σ Q := by
  unfold W_J8_checkLength
  refine am_iload_n (x := a2) dJ8_checkLength_0 rfl rfl ?_
  refine am_iload_n (x := a1) dJ8_checkLength_1 rfl rfl ?_
  refine am_icmp_ge (tgt := 37) dJ8_checkLength_2 (by decide) (fun c => ?_) (fun c => ?_)
  · have h := h.1 c
    exact am_vret rfl dJ8_checkLength_37 h
  · have h := h.2 c
    exact h.elim
theorem W_J8_copyOf_5_f {G : am_G} {d : Nat} {a1 : Option Nat} {a2 : Int32} {σ : am_S} {Q : Option Nat → am_S → Prop} (h : f_al σ a1 2 (fun v1 => ((¬ a2 = v1 → f_na G σ 2 f_a0i a2 (fun n2 σ3 => f_al σ3 a1 2 (fun v4 => W_J7_min G d v4 a2 σ3 (fun v5 σ6 => f_cpi σ6 a1 0 (some n2) 0 v5 2 .char (fun σ9 => Q (some n2) σ9))))) ∧ (a2 = v1 → False)))) : W_J8_copyOf_5 G (d + 1) a1 a2 σ Q := by
  unfold W_J8_copyOf_5
  refine am_iload_n (x := a2) dJ8_copyOf_5_0 rfl rfl ?_
  refine am_aloadr_n (x := a1) dJ8_copyOf_5_1 rfl rfl ?_
  refine fx_al (τ := 2) rfl dJ8_copyOf_5_2 h (fun v1 h => ?_)
  refine am_icmp_ne (tgt := 14) dJ8_copyOf_5_3 (by decide) (fun c => ?_) (fun c => ?_)
  · have h := h.1 c
    refine am_iload_n (x := a2) dJ8_copyOf_5_14 rfl rfl ?_
    refine fx_nai (atype := .char) (τ := 2) q1909 rfl (fun N cA => rfl) dJ8_copyOf_5_15 h (fun n2 σ3 h => ?_)
    refine am_astore_n (x := (some n2)) (L' := [(4, va_rf (some n2)), (0, va_rf a1), (2, .int a2)]) dJ8_copyOf_5_17 rfl (Nat.le_of_ble_eq_true rfl) rfl ?_
    refine am_aloadr_n (x := a1) dJ8_copyOf_5_18 rfl rfl ?_
    refine am_iconst (v := 0) dJ8_copyOf_5_19 (by decide) ?_
    refine am_aloadr_n (x := (some n2)) dJ8_copyOf_5_20 rfl rfl ?_
    refine am_iconst (v := 0) dJ8_copyOf_5_21 (by decide) ?_
    refine am_aloadr_n (x := a1) dJ8_copyOf_5_22 rfl rfl ?_
    refine fx_al (τ := 2) rfl dJ8_copyOf_5_23 h (fun v4 h => ?_)
    refine am_iload_n (x := a2) dJ8_copyOf_5_24 rfl rfl ?_
    refine fx_callS (Mc := m_J7_min) (as := [.int v4, .int a2]) bm_J7_min q703 q704 (Nat.le_of_ble_eq_true rfl) dJ8_copyOf_5_25 (mt_J7_min (fx_k2i h (fun v5 σ6 h => ?_) (fun q σ' h => h.elim)))
    refine fx_cpi (τ := 2) q706 q623 q622 q177 rfl rfl (Nat.le_of_ble_eq_true rfl) dJ8_copyOf_5_28 h (fun σ9 h => ?_)
    refine am_aloadr_n (x := (some n2)) dJ8_copyOf_5_31 rfl rfl ?_
    exact fx_aret rfl rfl dJ8_copyOf_5_32 h
  · have h := h.2 c
    refine am_aloadr_n (x := a1) dJ8_copyOf_5_6 rfl rfl ?_
    exact h.elim
theorem W_J8_fill_2_f {G : am_G} {d : Nat} {a1 : Option Nat} {a2 : Option Nat} {σ : am_S} {Q : am_S → Prop} (h : f_al σ a1 15 (fun v1 => B_J8_fill_2_5 G d a1 a2 0 v1 σ Q)) : W_J8_fill_2 G d a1 a2 σ Q := by
  unfold W_J8_fill_2
  refine am_iconst (v := 0) dJ8_fill_2_0 (by decide) ?_
  refine am_istore_n (L' := [(4, .int 0), (0, va_rf a1), (2, va_rf a2)]) dJ8_fill_2_1 rfl (Nat.le_of_ble_eq_true rfl) rfl ?_
  refine am_aloadr_n (x := a1) dJ8_fill_2_2 rfl rfl ?_
  refine fx_al (τ := 15) rfl dJ8_fill_2_3 h (fun v1 h => ?_)
  refine am_istore_n (L' := [(6, .int v1), (4, .int 0), (0, va_rf a1), (2, va_rf a2)]) dJ8_fill_2_4 rfl (Nat.le_of_ble_eq_true rfl) rfl ?_
  exact am_lss h rfl
theorem B_J8_fill_2_5_f {G : am_G} {d : Nat} {x0 : Option Nat} {x1 : Option Nat} {x2 : Int32} {x3 : Int32} {σ : am_S} {Q : am_S → Prop} (h : ((x3 ≤ x2 → Q σ) ∧ (¬ x3 ≤ x2 → f_sr σ x0 15 [] x2 x1 (fun σ1 => B_J8_fill_2_5 G d x0 x1 (x2 + 1) x3 σ1 Q)))) : B_J8_fill_2_5 G d x0 x1 x2 x3 σ Q := by
  unfold B_J8_fill_2_5
  refine am_iload_n (x := x2) dJ8_fill_2_5 rfl rfl ?_
  refine am_iload_n (x := x3) dJ8_fill_2_6 rfl rfl ?_
  refine am_icmp_ge (tgt := 20) dJ8_fill_2_7 (by decide) (fun c => ?_) (fun c => ?_)
  · have h := h.1 c
    exact am_vret rfl dJ8_fill_2_20 h
  · have h := h.2 c
    refine am_aloadr_n (x := x0) dJ8_fill_2_10 rfl rfl ?_
    refine am_iload_n (x := x2) dJ8_fill_2_11 rfl rfl ?_
    refine am_aloadr_n (x := x1) dJ8_fill_2_12 rfl rfl ?_
    refine fx_sr (τ := 15) (E := "PondHouse$LongAct") (cs := []) (v := x1) rfl f_cls0 dJ8_fill_2_13 h (fun σ1 h => ?_)
    refine am_iinc (x := x2) (v := (x2 + 1)) (L' := [(4, .int (x2 + 1)), (0, va_rf x0), (2, va_rf x1), (6, .int x3)]) dJ8_fill_2_14 rfl rfl (Nat.le_of_ble_eq_true rfl) rfl ?_
    refine am_goto (tgt := 5) dJ8_fill_2_17 (by decide) ?_
    exact am_lss h rfl
theorem W_J9_canEncode_f {G : am_G} {d : Nat} {a1 : Int32} {σ : am_S} {Q : Int32 → am_S → Prop} (h : ((255 < a1 → Q 0 σ) ∧ (¬ 255 < a1 → Q 1 σ))) : W_J9_canEncode G d a1 σ Q := by
  unfold W_J9_canEncode
  refine am_iload_n (x := a1) dJ9_canEncode_0 rfl rfl ?_
  refine am_sipush (v := 255) dJ9_canEncode_1 (by decide) ?_
  refine am_icmp_gt (tgt := 11) dJ9_canEncode_4 (by decide) (fun c => ?_) (fun c => ?_)
  · have h := h.1 c
    refine am_iconst (v := 0) dJ9_canEncode_11 (by decide) ?_
    exact am_zret rfl rfl dJ9_canEncode_12 h
  · have h := h.2 c
    refine am_iconst (v := 1) dJ9_canEncode_7 (by decide) ?_
    refine am_goto (tgt := 12) dJ9_canEncode_8 (by decide) ?_
    exact am_zret rfl rfl dJ9_canEncode_12 h
theorem W_J9_equals_f {G : am_G} {d : Nat} {a1 : Option Nat} {a2 : Option Nat} {σ : am_S} {Q : Int32 → am_S → Prop} (h : f_Gal G σ a1 1 (fun v1 => f_Gal G σ a2 1 (fun v2 => ((¬ v1 = v2 → Q 0 σ) ∧ (v1 = v2 → B_J9_equals_9 G d a1 a2 0 σ Q))))) : W_J9_equals G d a1 a2 σ Q := by
  unfold W_J9_equals
  refine am_aloadr_n (x := a1) dJ9_equals_0 rfl rfl ?_
  refine fx_Gal (τ := 1) rfl dJ9_equals_1 h (fun v1 h => ?_)
  refine am_aloadr_n (x := a2) dJ9_equals_2 rfl rfl ?_
  refine fx_Gal (τ := 1) rfl dJ9_equals_3 h (fun v2 h => ?_)
  refine am_icmp_ne (tgt := 34) dJ9_equals_4 (by decide) (fun c => ?_) (fun c => ?_)
  · have h := h.1 c
    refine am_iconst (v := 0) dJ9_equals_34 (by decide) ?_
    exact am_zret rfl rfl dJ9_equals_35 h
  · have h := h.2 c
    refine am_iconst (v := 0) dJ9_equals_7 (by decide) ?_
    refine am_istore_n (L' := [(4, .int 0), (0, va_rf a1), (2, va_rf a2)]) dJ9_equals_8 rfl (Nat.le_of_ble_eq_true rfl) rfl ?_
    exact am_lss h rfl
theorem B_J9_equals_9_f {G : am_G} {d : Nat} {x0 : Option Nat} {x1 : Option Nat} {x2 : Int32} {σ : am_S} {Q : Int32 → am_S → Prop} (h : f_Gal G σ x0 1 (fun v1 => ((v1 ≤ x2 → Q 1 σ) ∧ (¬ v1 ≤ x2 → f_Gai G σ x0 x2 (fun v2 => f_Gai G σ x1 x2 (fun v3 => ((v2 = v3 → B_J9_equals_9 G d x0 x1 (x2 + 1) σ Q) ∧ (¬ v2 = v3 → Q 0 σ)))))))) : B_J9_equals_9 G d x0 x1 x2 σ Q := by
  unfold B_J9_equals_9
  refine am_iload_n (x := x2) dJ9_equals_9 rfl rfl ?_
  refine am_aloadr_n (x := x0) dJ9_equals_10 rfl rfl ?_
  refine fx_Gal (τ := 1) rfl dJ9_equals_11 h (fun v1 h => ?_)
  refine am_icmp_ge (tgt := 32) dJ9_equals_12 (by decide) (fun c => ?_) (fun c => ?_)
  · have h := h.1 c
    refine am_iconst (v := 1) dJ9_equals_32 (by decide) ?_
    exact am_zret rfl rfl dJ9_equals_33 h
  · have h := h.2 c
    refine am_aloadr_n (x := x0) dJ9_equals_15 rfl rfl ?_
    refine am_iload_n (x := x2) dJ9_equals_16 rfl rfl ?_
    refine fx_Gai dJ9_equals_17 h (fun v2 h => ?_)
    refine am_aloadr_n (x := x1) dJ9_equals_18 rfl rfl ?_
    refine am_iload_n (x := x2) dJ9_equals_19 rfl rfl ?_
    refine fx_Gai dJ9_equals_20 h (fun v3 h => ?_)
    refine am_icmp_eq (tgt := 26) dJ9_equals_21 (by decide) (fun c => ?_) (fun c => ?_)
    · have h := h.1 c
      refine am_iinc (x := x2) (v := (x2 + 1)) (L' := [(4, .int (x2 + 1)), (0, va_rf x0), (2, va_rf x1)]) dJ9_equals_26 rfl rfl (Nat.le_of_ble_eq_true rfl) rfl ?_
      refine am_goto (tgt := 9) dJ9_equals_29 (by decide) ?_
      exact am_lss h rfl
    · have h := h.2 c
      refine am_iconst (v := 0) dJ9_equals_24 (by decide) ?_
      exact am_zret rfl rfl dJ9_equals_25 h
theorem W_J9_indexOf_f {G : am_G} {d : Nat} {a1 : Option Nat} {a2 : Int32} {a3 : Int32} {a4 : Int32} {σ : am_S} {Q : Int32 → am_S → Prop} (h : W_J9_canEncode_2 G d a2 σ (fun v1 σ2 => ((¬ v1 = 0 → W_J7_max G d a3 0 σ2 (fun v5 σ6 => f_Gal G σ6 a1 1 (fun v9 => W_J7_min G d a4 v9 σ6 (fun v10 σ11 => ((v5 < v10 → W_J9_indexOfChar G d a1 a2 v5 v10 σ11 (fun v14 σ15 => Q v14 σ15)) ∧ (¬ v5 < v10 → Q (-1) σ11)))))) ∧ (v1 = 0 → Q (-1) σ2)))) : W_J9_indexOf G (d + 1) a1 a2 a3 a4 σ Q := by
  unfold W_J9_indexOf
  refine am_iload_n (x := a2) dJ9_indexOf_0 rfl rfl ?_
  refine fx_callS (Mc := m_J9_canEncode_2) (as := [.int a2]) bm_J9_canEncode_2 q1631 q1632 (Nat.le_of_ble_eq_true rfl) dJ9_indexOf_1 (mt_J9_canEncode_2 (fx_k2i h (fun v1 σ2 h => ?_) (fun q σ' h => h.elim)))
  refine am_if_ne (tgt := 9) dJ9_indexOf_4 (by decide) (fun c => ?_) (fun c => ?_)
  · have h := h.1 c
    refine am_iload_n (x := a3) dJ9_indexOf_9 rfl rfl ?_
    refine am_iconst (v := 0) dJ9_indexOf_10 (by decide) ?_
    refine fx_callS (Mc := m_J7_max) (as := [.int a3, .int 0]) bm_J7_max q1634 q648 (Nat.le_of_ble_eq_true rfl) dJ9_indexOf_11 (mt_J7_max (fx_k2i h (fun v5 σ6 h => ?_) (fun q σ' h => h.elim)))
    refine am_istore_n (L' := [(4, .int v5), (0, va_rf a1), (2, .int a2), (6, .int a4)]) dJ9_indexOf_14 rfl (Nat.le_of_ble_eq_true rfl) rfl ?_
    refine am_iload_n (x := a4) dJ9_indexOf_15 rfl rfl ?_
    refine am_aloadr_n (x := a1) dJ9_indexOf_16 rfl rfl ?_
    refine fx_Gal (τ := 1) rfl dJ9_indexOf_17 h (fun v9 h => ?_)
    refine fx_callS (Mc := m_J7_min) (as := [.int a4, .int v9]) bm_J7_min q1635 q704 (Nat.le_of_ble_eq_true rfl) dJ9_indexOf_18 (mt_J7_min (fx_k2i h (fun v10 σ11 h => ?_) (fun q σ' h => h.elim)))
    refine am_istore_n (L' := [(6, .int v10), (4, .int v5), (0, va_rf a1), (2, .int a2)]) dJ9_indexOf_21 rfl (Nat.le_of_ble_eq_true rfl) rfl ?_
    refine am_iload_n (x := v5) dJ9_indexOf_22 rfl rfl ?_
    refine am_iload_n (x := v10) dJ9_indexOf_23 rfl rfl ?_
    refine am_icmp_lt (tgt := 29) dJ9_indexOf_24 (by decide) (fun c => ?_) (fun c => ?_)
    · have h := h.1 c
      refine am_aloadr_n (x := a1) dJ9_indexOf_29 rfl rfl ?_
      refine am_iload_n (x := a2) dJ9_indexOf_30 rfl rfl ?_
      refine am_iload_n (x := v5) dJ9_indexOf_31 rfl rfl ?_
      refine am_iload_n (x := v10) dJ9_indexOf_32 rfl rfl ?_
      refine fx_callS (Mc := m_J9_indexOfChar) (as := [va_rf a1, .int a2, .int v5, .int v10]) bm_J9_indexOfChar q1636 q1637 (Nat.le_of_ble_eq_true rfl) dJ9_indexOf_33 (mt_J9_indexOfChar (fx_k2i h (fun v14 σ15 h => ?_) (fun q σ' h => h.elim)))
      exact am_iret rfl dJ9_indexOf_36 h
    · have h := h.2 c
      refine am_iconst (v := (-1)) dJ9_indexOf_27 (by decide) ?_
      exact am_iret rfl dJ9_indexOf_28 h
  · have h := h.2 c
    refine am_iconst (v := (-1)) dJ9_indexOf_7 (by decide) ?_
    exact am_iret rfl dJ9_indexOf_8 h
theorem W_J9_canEncode_2_f {G : am_G} {d : Nat} {a1 : Int32} {σ : am_S} {Q : Int32 → am_S → Prop} (h : ((a1 < 0 → Q 0 σ) ∧ (¬ a1 < 0 → ((255 < a1 → Q 0 σ) ∧ (¬ 255 < a1 → Q 1 σ))))) : W_J9_canEncode_2 G d a1 σ Q := by
  unfold W_J9_canEncode_2
  refine am_iload_n (x := a1) dJ9_canEncode_2_0 rfl rfl ?_
  refine am_if_lt (tgt := 15) dJ9_canEncode_2_1 (by decide) (fun c => ?_) (fun c => ?_)
  · have h := h.1 c
    refine am_iconst (v := 0) dJ9_canEncode_2_15 (by decide) ?_
    exact am_zret rfl rfl dJ9_canEncode_2_16 h
  · have h := h.2 c
    refine am_iload_n (x := a1) dJ9_canEncode_2_4 rfl rfl ?_
    refine am_sipush (v := 255) dJ9_canEncode_2_5 (by decide) ?_
    refine am_icmp_gt (tgt := 15) dJ9_canEncode_2_8 (by decide) (fun c => ?_) (fun c => ?_)
    · have h := h.1 c
      refine am_iconst (v := 0) dJ9_canEncode_2_15 (by decide) ?_
      exact am_zret rfl rfl dJ9_canEncode_2_16 h
    · have h := h.2 c
      refine am_iconst (v := 1) dJ9_canEncode_2_11 (by decide) ?_
      refine am_goto (tgt := 16) dJ9_canEncode_2_12 (by decide) ?_
      exact am_zret rfl rfl dJ9_canEncode_2_16 h
theorem W_J9_indexOfChar_f {G : am_G} {d : Nat} {a1 : Option Nat} {a2 : Int32} {a3 : Int32} {a4 : Int32} {σ : am_S} {Q : Int32 → am_S → Prop} (h : B_J9_indexOfChar_7 G d a1 a4 ((Int32.toInt8 a2).toInt32) a3 σ Q) : W_J9_indexOfChar G d a1 a2 a3 a4 σ Q := by
  unfold W_J9_indexOfChar
  refine am_iload_n (x := a2) dJ9_indexOfChar_0 rfl rfl ?_
  refine am_i2b dJ9_indexOfChar_1 rfl ?_
  refine am_istore (L' := [(8, .int ((Int32.toInt8 a2).toInt32)), (0, va_rf a1), (2, .int a2), (4, .int a3), (6, .int a4)]) dJ9_indexOfChar_2 (Nat.le_of_ble_eq_true rfl) rfl ?_
  refine am_iload_n (x := a3) dJ9_indexOfChar_4 rfl rfl ?_
  refine am_istore (L' := [(10, .int a3), (8, .int ((Int32.toInt8 a2).toInt32)), (0, va_rf a1), (2, .int a2), (4, .int a3), (6, .int a4)]) dJ9_indexOfChar_5 (Nat.le_of_ble_eq_true rfl) rfl ?_
  exact am_lss h rfl
theorem B_J9_indexOfChar_7_f {G : am_G} {d : Nat} {x0 : Option Nat} {x3 : Int32} {x4 : Int32} {x5 : Int32} {σ : am_S} {Q : Int32 → am_S → Prop} (h : ((x3 ≤ x5 → Q (-1) σ) ∧ (¬ x3 ≤ x5 → f_Gai G σ x0 x5 (fun v1 => ((¬ v1 = x4 → B_J9_indexOfChar_7 G d x0 x3 x4 (x5 + 1) σ Q) ∧ (v1 = x4 → Q x5 σ)))))) : B_J9_indexOfChar_7 G d x0 x3 x4 x5 σ Q := by
  unfold B_J9_indexOfChar_7
  refine am_iload (x := x5) dJ9_indexOfChar_7 rfl ?_
  refine am_iload_n (x := x3) dJ9_indexOfChar_9 rfl rfl ?_
  refine am_icmp_ge (tgt := 31) dJ9_indexOfChar_10 (by decide) (fun c => ?_) (fun c => ?_)
  · have h := h.1 c
    refine am_iconst (v := (-1)) dJ9_indexOfChar_31 (by decide) ?_
    exact am_iret rfl dJ9_indexOfChar_32 h
  · have h := h.2 c
    refine am_aloadr_n (x := x0) dJ9_indexOfChar_13 rfl rfl ?_
    refine am_iload (x := x5) dJ9_indexOfChar_14 rfl ?_
    refine fx_Gai dJ9_indexOfChar_16 h (fun v1 h => ?_)
    refine am_iload (x := x4) dJ9_indexOfChar_17 rfl ?_
    refine am_icmp_ne (tgt := 25) dJ9_indexOfChar_19 (by decide) (fun c => ?_) (fun c => ?_)
    · have h := h.1 c
      refine am_iinc (x := x5) (v := (x5 + 1)) (L' := [(10, .int (x5 + 1)), (0, va_rf x0), (6, .int x3), (8, .int x4)]) dJ9_indexOfChar_25 rfl rfl (Nat.le_of_ble_eq_true rfl) rfl ?_
      refine am_goto (tgt := 7) dJ9_indexOfChar_28 (by decide) ?_
      exact am_lss h rfl
    · have h := h.2 c
      refine am_iload (x := x5) dJ9_indexOfChar_22 rfl ?_
      exact am_iret rfl dJ9_indexOfChar_24 h
theorem W_X0_back_f {G : am_G} {d : Nat} {a0 : Nat} {σ : am_S} {Q : Int32 → am_S → Prop} (h : f_gr σ (some a0) [0] 34 (fun v1 => ((v1 = none → Q 0 σ) ∧ (¬ v1 = none → f_gr σ (some a0) [0] 27 (fun v2 => ((v2 = none → B_X0_back_18 G (d + 1) a0 0 σ Q) ∧ (¬ v2 = none → Q 0 σ))))))) : W_X0_back G (d + 1) a0 σ Q := by
  unfold W_X0_back
  refine am_aloadr_n (x := some a0) dX0_back_0 rfl rfl ?_
  refine fx_gr (k := 34) (f_fldC (ref := "PondHouse") inf_X0 (by decide) q1274 (Or.inl rfl) f_fld0) dX0_back_1 h (fun v1 h => ?_)
  refine am_ifnullr (tgt := 14) dX0_back_4 (by decide) (fun c => ?_) (fun c => ?_)
  · have h := h.1 c
    refine am_iconst (v := 0) dX0_back_14 (by decide) ?_
    exact am_zret rfl rfl dX0_back_15 h
  · have h := h.2 c
    refine am_aloadr_n (x := some a0) dX0_back_7 rfl rfl ?_
    refine fx_gr (k := 27) (f_fldC (ref := "PondHouse") inf_X0 (by decide) q1267 (Or.inl rfl) f_fld0) dX0_back_8 h (fun v2 h => ?_)
    refine am_ifnullr (tgt := 16) dX0_back_11 (by decide) (fun c => ?_) (fun c => ?_)
    · have h := h.1 c
      refine am_iconst (v := 0) dX0_back_16 (by decide) ?_
      refine am_istore_n (L' := [(2, .int 0), (0, va_rf (some a0))]) dX0_back_17 rfl (Nat.le_of_ble_eq_true rfl) rfl ?_
      exact am_lss h rfl
    · have h := h.2 c
      refine am_iconst (v := 0) dX0_back_14 (by decide) ?_
      exact am_zret rfl rfl dX0_back_15 h
theorem B_X0_back_18_f {G : am_G} {d : Nat} {a0 : Nat} {x1 : Int32} {σ : am_S} {Q : Int32 → am_S → Prop} (h : f_gi σ (some a0) [0] 6 (fun v1 => ((v1 ≤ x1 → f_gr σ (some a0) [0] 33 (fun v2 => f_al σ v2 11 (fun v3 => f_na G σ 11 f_a0r v3 (fun n4 σ5 => B_X0_back_112 G (d + 1) a0 (some n4) 0 σ5 Q)))) ∧ (¬ v1 ≤ x1 → f_gr σ (some a0) [0] 5 (fun v6 => f_ar σ v6 12 x1 (fun v7 => f_gr σ v7 [31] 1 (fun v8 => ((¬ v8 = none → f_gr σ (some a0) [0] 32 (fun v9 => f_gr σ v7 [31] 1 (fun v10 => f_gi σ v10 [21] 0 (fun v11 => W_X0_find G d v9 v11 σ (fun v12 σ13 => ((¬ v12 = (-1) → f_gr σ13 (some a0) [0] 32 (fun v16 => f_ar σ13 v16 9 v12 (fun v17 => f_gr σ13 v7 [31] 1 (fun v18 => ((v17 = v18 → B_X0_back_18 G (d + 1) a0 (x1 + 1) σ13 Q) ∧ (¬ v17 = v18 → f_gr σ13 (some a0) [0] 32 (fun v19 => f_ar σ13 v19 9 v12 (fun v20 => f_o σ13 (some a0) [0] (fun b => W_X0_returns G d b v7 v20 σ13 (fun σ22 => B_X0_back_18 G (d + 1) a0 (x1 + 1) σ22 Q)))))))))) ∧ (v12 = (-1) → f_o σ13 (some a0) [0] (fun b => W_X0_ends G d b v7 σ13 (fun σ26 => B_X0_back_18 G (d + 1) a0 (x1 + 1) σ26 Q))))))))) ∧ (v8 = none → B_X0_back_18 G (d + 1) a0 (x1 + 1) σ Q))))))))) : B_X0_back_18 G (d + 1) a0 x1 σ Q := by
  unfold B_X0_back_18
  refine am_iload_n (x := x1) dX0_back_18 rfl rfl ?_
  refine am_aloadr_n (x := some a0) dX0_back_19 rfl rfl ?_
  refine fx_gi (k := 6) (f_fldC (ref := "PondHouse") inf_X0 (by decide) q1243 (Or.inl rfl) f_fld0) dX0_back_20 h (fun v1 h => ?_)
  refine am_icmp_ge (tgt := 101) dX0_back_23 (by decide) (fun c => ?_) (fun c => ?_)
  · have h := h.1 c
    refine am_aloadr_n (x := some a0) dX0_back_101 rfl rfl ?_
    refine fx_gr (k := 33) (f_fldC (ref := "PondHouse") inf_X0 (by decide) q1273 (Or.inl rfl) f_fld0) dX0_back_102 h (fun v2 h => ?_)
    refine fx_al (τ := 11) rfl dX0_back_105 h (fun v3 h => ?_)
    refine fx_nar (τ := 11) q276 q277 rfl dX0_back_106 h (fun n4 σ5 h => ?_)
    refine am_astore_n (x := (some n4)) (L' := [(2, va_rf (some n4)), (0, va_rf (some a0))]) dX0_back_109 rfl (Nat.le_of_ble_eq_true rfl) rfl ?_
    refine am_iconst (v := 0) dX0_back_110 (by decide) ?_
    refine am_istore_n (L' := [(4, .int 0), (2, va_rf (some n4)), (0, va_rf (some a0))]) dX0_back_111 rfl (Nat.le_of_ble_eq_true rfl) rfl ?_
    exact am_lss h rfl
  · have h := h.2 c
    refine am_aloadr_n (x := some a0) dX0_back_26 rfl rfl ?_
    refine fx_gr (k := 5) (f_fldC (ref := "PondHouse") inf_X0 (by decide) q1242 (Or.inl rfl) f_fld0) dX0_back_27 h (fun v6 h => ?_)
    refine am_iload_n (x := x1) dX0_back_30 rfl rfl ?_
    refine fx_ar (τ := 12) rfl rfl dX0_back_31 h (fun v7 h => ?_)
    refine am_astore_n (x := v7) (L' := [(4, va_rf v7), (0, va_rf (some a0)), (2, .int x1)]) dX0_back_32 rfl (Nat.le_of_ble_eq_true rfl) rfl ?_
    refine am_aloadr_n (x := v7) dX0_back_33 rfl rfl ?_
    refine fx_gr (k := 1) (f_fldC (ref := "PondHouse$Creature") inf_X34 (by decide) q2253 (Or.inl rfl) f_fld0) dX0_back_34 h (fun v8 h => ?_)
    refine am_ifnonnullr (tgt := 43) dX0_back_37 (by decide) (fun c => ?_) (fun c => ?_)
    · have h := h.1 c
      refine am_aloadr_n (x := some a0) dX0_back_43 rfl rfl ?_
      refine fx_gr (k := 32) (f_fldC (ref := "PondHouse") inf_X0 (by decide) q1272 (Or.inl rfl) f_fld0) dX0_back_44 h (fun v9 h => ?_)
      refine am_aloadr_n (x := v7) dX0_back_47 rfl rfl ?_
      refine fx_gr (k := 1) (f_fldC (ref := "PondHouse$Creature") inf_X34 (by decide) q2253 (Or.inl rfl) f_fld0) dX0_back_48 h (fun v10 h => ?_)
      refine fx_gi (k := 0) (f_fldC (ref := "PondHouse$Kind") inf_X23 (by decide) q907 (Or.inl rfl) f_fld0) dX0_back_51 h (fun v11 h => ?_)
      refine fx_callS (Mc := m_X0_find) (as := [va_rf v9, .int v11]) bm_X0_find q218 q219 (Nat.le_of_ble_eq_true rfl) dX0_back_54 (mt_X0_find (fx_k2i h (fun v12 σ13 h => ?_) (fun q σ' h => h.elim)))
      refine am_istore_n (L' := [(6, .int v12), (4, va_rf v7), (0, va_rf (some a0)), (2, .int x1)]) dX0_back_57 rfl (Nat.le_of_ble_eq_true rfl) rfl ?_
      refine am_iload_n (x := v12) dX0_back_58 rfl rfl ?_
      refine am_iconst (v := (-1)) dX0_back_59 (by decide) ?_
      refine am_icmp_ne (tgt := 71) dX0_back_60 (by decide) (fun c => ?_) (fun c => ?_)
      · have h := h.1 c
        refine am_aloadr_n (x := some a0) dX0_back_71 rfl rfl ?_
        refine fx_gr (k := 32) (f_fldC (ref := "PondHouse") inf_X0 (by decide) q1272 (Or.inl rfl) f_fld0) dX0_back_72 h (fun v16 h => ?_)
        refine am_iload_n (x := v12) dX0_back_75 rfl rfl ?_
        refine fx_ar (τ := 9) rfl rfl dX0_back_76 h (fun v17 h => ?_)
        refine am_aloadr_n (x := v7) dX0_back_77 rfl rfl ?_
        refine fx_gr (k := 1) (f_fldC (ref := "PondHouse$Creature") inf_X34 (by decide) q2253 (Or.inl rfl) f_fld0) dX0_back_78 h (fun v18 h => ?_)
        refine am_acmp_eq (rx := v17) (ry := v18) (tgt := 95) dX0_back_81 (by decide) (fun c => ?_) (fun c => ?_)
        · have h := h.1 c
          refine am_iinc (x := x1) (v := (x1 + 1)) (L' := [(2, .int (x1 + 1)), (6, .int v12), (4, va_rf v7), (0, va_rf (some a0))]) dX0_back_95 rfl rfl (Nat.le_of_ble_eq_true rfl) rfl ?_
          refine am_goto (tgt := 18) dX0_back_98 (by decide) ?_
          exact am_lss h rfl
        · have h := h.2 c
          refine am_aloadr_n (x := some a0) dX0_back_84 rfl rfl ?_
          refine am_aloadr_n (x := v7) dX0_back_85 rfl rfl ?_
          refine am_aloadr_n (x := some a0) dX0_back_86 rfl rfl ?_
          refine fx_gr (k := 32) (f_fldC (ref := "PondHouse") inf_X0 (by decide) q1272 (Or.inl rfl) f_fld0) dX0_back_87 h (fun v19 h => ?_)
          refine am_iload_n (x := v12) dX0_back_90 rfl rfl ?_
          refine fx_ar (τ := 9) rfl rfl dX0_back_91 h (fun v20 h => ?_)
          refine fx_callV (Mc := m_X0_returns) (as := [va_rf v7, va_rf v20]) (cs := [0]) (r := (some a0)) (f_clsC inf_X0 qs2 f_cls0) bm_X0_returns q230 q232 (Nat.le_of_ble_eq_true rfl) dX0_back_92 h (fun b h => mt_X0_returns (fx_k2v h (fun σ22 h => ?_) (fun q σ' h => h.elim)))
          refine am_iinc (x := x1) (v := (x1 + 1)) (L' := [(2, .int (x1 + 1)), (6, .int v12), (4, va_rf v7), (0, va_rf (some a0))]) dX0_back_95 rfl rfl (Nat.le_of_ble_eq_true rfl) rfl ?_
          refine am_goto (tgt := 18) dX0_back_98 (by decide) ?_
          exact am_lss h rfl
      · have h := h.2 c
        refine am_aloadr_n (x := some a0) dX0_back_63 rfl rfl ?_
        refine am_aloadr_n (x := v7) dX0_back_64 rfl rfl ?_
        refine fx_callV (Mc := m_X0_ends) (as := [va_rf v7]) (cs := [0]) (r := (some a0)) (f_clsC inf_X0 qs0 f_cls0) bm_X0_ends q221 q223 (Nat.le_of_ble_eq_true rfl) dX0_back_65 h (fun b h => mt_X0_ends (fx_k2v h (fun σ26 h => ?_) (fun q σ' h => h.elim)))
        refine am_goto (tgt := 95) dX0_back_68 (by decide) ?_
        refine am_iinc (x := x1) (v := (x1 + 1)) (L' := [(2, .int (x1 + 1)), (6, .int v12), (4, va_rf v7), (0, va_rf (some a0))]) dX0_back_95 rfl rfl (Nat.le_of_ble_eq_true rfl) rfl ?_
        refine am_goto (tgt := 18) dX0_back_98 (by decide) ?_
        exact am_lss h rfl
    · have h := h.2 c
      refine am_goto (tgt := 95) dX0_back_40 (by decide) ?_
      refine am_iinc (x := x1) (v := (x1 + 1)) (L' := [(2, .int (x1 + 1)), (4, va_rf v7), (0, va_rf (some a0))]) dX0_back_95 rfl rfl (Nat.le_of_ble_eq_true rfl) rfl ?_
      refine am_goto (tgt := 18) dX0_back_98 (by decide) ?_
      exact am_lss h rfl
theorem B_X0_back_112_f {G : am_G} {d : Nat} {a0 : Nat} {x1 : Option Nat} {x2 : Int32} {σ : am_S} {Q : Int32 → am_S → Prop} (h : f_al σ x1 11 (fun v1 => ((v1 ≤ x2 → f_p σ (some a0) [0] 4 (va_rf x1) (fun σ2 => f_gr σ2 (some a0) [0] 32 (fun v3 => f_p σ2 (some a0) [0] 3 (va_rf v3) (fun σ4 => f_gr σ4 (some a0) [0] 34 (fun v5 => f_p σ4 v5 [24] 1 (.int 5) (fun σ6 => f_p σ6 (some a0) [0] 34 (va_rf none) (fun σ7 => Q 1 σ7))))))) ∧ (¬ v1 ≤ x2 → f_gr σ (some a0) [0] 4 (fun v8 => f_gr σ (some a0) [0] 33 (fun v9 => f_ar σ v9 11 x2 (fun v10 => f_gi σ v10 [23] 0 (fun v11 => f_gr σ (some a0) [0] 33 (fun v12 => f_ar σ v12 11 x2 (fun v13 => f_gi σ v13 [23] 1 (fun v14 => W_X0_find_2 G d v8 v11 v14 σ (fun v15 σ16 => ((¬ v15 = none → f_sr σ16 x1 11 [23] x2 v15 (fun σ19 => B_X0_back_112 G (d + 1) a0 x1 (x2 + 1) σ19 Q)) ∧ (v15 = none → f_gr σ16 (some a0) [0] 33 (fun v20 => f_ar σ16 v20 11 x2 (fun v21 => f_sr σ16 x1 11 [23] x2 v21 (fun σ22 => B_X0_back_112 G (d + 1) a0 x1 (x2 + 1) σ22 Q))))))))))))))))) : B_X0_back_112 G (d + 1) a0 x1 x2 σ Q := by
  unfold B_X0_back_112
  refine am_iload_n (x := x2) dX0_back_112 rfl rfl ?_
  refine am_aloadr_n (x := x1) dX0_back_113 rfl rfl ?_
  refine fx_al (τ := 11) rfl dX0_back_114 h (fun v1 h => ?_)
  refine am_icmp_ge (tgt := 167) dX0_back_115 (by decide) (fun c => ?_) (fun c => ?_)
  · have h := h.1 c
    refine am_aloadr_n (x := some a0) dX0_back_167 rfl rfl ?_
    refine am_aloadr_n (x := x1) dX0_back_168 rfl rfl ?_
    refine fx_p (k := 4) (v := va_rf x1) (f_putC inf_X0 (by decide) (f_nra _ _) (f_fra _ _) q1241 (Or.inl rfl) f_put0) dX0_back_169 h (fun σ2 h => ?_)
    refine am_aloadr_n (x := some a0) dX0_back_172 rfl rfl ?_
    refine am_aloadr_n (x := some a0) dX0_back_173 rfl rfl ?_
    refine fx_gr (k := 32) (f_fldC (ref := "PondHouse") inf_X0 (by decide) q1272 (Or.inl rfl) f_fld0) dX0_back_174 h (fun v3 h => ?_)
    refine fx_p (k := 3) (v := va_rf v3) (f_putC inf_X0 (by decide) (f_nra _ _) (f_fra _ _) q1240 (Or.inl rfl) f_put0) dX0_back_177 h (fun σ4 h => ?_)
    refine am_aloadr_n (x := some a0) dX0_back_180 rfl rfl ?_
    refine fx_gr (k := 34) (f_fldC (ref := "PondHouse") inf_X0 (by decide) q1274 (Or.inl rfl) f_fld0) dX0_back_181 h (fun v5 h => ?_)
    refine am_iconst (v := 5) dX0_back_184 (by decide) ?_
    refine fx_p (k := 1) (v := .int 5) (f_putC inf_X26 (by decide) rfl rfl q2217 (Or.inl rfl) f_put0) dX0_back_185 h (fun σ6 h => ?_)
    refine am_aloadr_n (x := some a0) dX0_back_188 rfl rfl ?_
    refine am_null dX0_back_189 ?_
    refine fx_p (k := 34) (v := va_rf none) (f_putC inf_X0 (by decide) (f_nrf _ _) (f_frf _ _) q1274 (Or.inl rfl) f_put0) dX0_back_190 h (fun σ7 h => ?_)
    refine am_iconst (v := 1) dX0_back_193 (by decide) ?_
    exact am_zret rfl rfl dX0_back_194 h
  · have h := h.2 c
    refine am_aloadr_n (x := some a0) dX0_back_118 rfl rfl ?_
    refine fx_gr (k := 4) (f_fldC (ref := "PondHouse") inf_X0 (by decide) q1241 (Or.inl rfl) f_fld0) dX0_back_119 h (fun v8 h => ?_)
    refine am_aloadr_n (x := some a0) dX0_back_122 rfl rfl ?_
    refine fx_gr (k := 33) (f_fldC (ref := "PondHouse") inf_X0 (by decide) q1273 (Or.inl rfl) f_fld0) dX0_back_123 h (fun v9 h => ?_)
    refine am_iload_n (x := x2) dX0_back_126 rfl rfl ?_
    refine fx_ar (τ := 11) rfl rfl dX0_back_127 h (fun v10 h => ?_)
    refine fx_gi (k := 0) (f_fldC (ref := "PondHouse$Fixed") inf_X25 (by decide) q1004 (Or.inl rfl) f_fld0) dX0_back_128 h (fun v11 h => ?_)
    refine am_aloadr_n (x := some a0) dX0_back_131 rfl rfl ?_
    refine fx_gr (k := 33) (f_fldC (ref := "PondHouse") inf_X0 (by decide) q1273 (Or.inl rfl) f_fld0) dX0_back_132 h (fun v12 h => ?_)
    refine am_iload_n (x := x2) dX0_back_135 rfl rfl ?_
    refine fx_ar (τ := 11) rfl rfl dX0_back_136 h (fun v13 h => ?_)
    refine fx_gi (k := 1) (f_fldC (ref := "PondHouse$Fixed") inf_X25 (by decide) q1006 (Or.inl rfl) f_fld0) dX0_back_137 h (fun v14 h => ?_)
    refine fx_callS (Mc := m_X0_find_2) (as := [va_rf v8, .int v11, .int v14]) bm_X0_find_2 q278 q279 (Nat.le_of_ble_eq_true rfl) dX0_back_140 (mt_X0_find_2 (fx_k2r h (fun v15 σ16 h => ?_) (fun q σ' h => h.elim)))
    refine am_astore_n (x := v15) (L' := [(6, va_rf v15), (0, va_rf (some a0)), (2, va_rf x1), (4, .int x2)]) dX0_back_143 rfl (Nat.le_of_ble_eq_true rfl) rfl ?_
    refine am_aloadr_n (x := x1) dX0_back_144 rfl rfl ?_
    refine am_iload_n (x := x2) dX0_back_145 rfl rfl ?_
    refine am_aloadr_n (x := v15) dX0_back_146 rfl rfl ?_
    refine am_ifnonnullr (tgt := 159) dX0_back_147 (by decide) (fun c => ?_) (fun c => ?_)
    · have h := h.1 c
      refine am_aloadr_n (x := v15) dX0_back_159 rfl rfl ?_
      refine fx_sr (τ := 11) (E := "PondHouse$Fixed") (cs := [23]) (v := v15) rfl (f_clsC inf_X25 (Or.inl rfl) f_cls0) dX0_back_160 h (fun σ19 h => ?_)
      refine am_iinc (x := x2) (v := (x2 + 1)) (L' := [(4, .int (x2 + 1)), (6, va_rf v15), (0, va_rf (some a0)), (2, va_rf x1)]) dX0_back_161 rfl rfl (Nat.le_of_ble_eq_true rfl) rfl ?_
      refine am_goto (tgt := 112) dX0_back_164 (by decide) ?_
      exact am_lss h rfl
    · have h := h.2 c
      refine am_aloadr_n (x := some a0) dX0_back_150 rfl rfl ?_
      refine fx_gr (k := 33) (f_fldC (ref := "PondHouse") inf_X0 (by decide) q1273 (Or.inl rfl) f_fld0) dX0_back_151 h (fun v20 h => ?_)
      refine am_iload_n (x := x2) dX0_back_154 rfl rfl ?_
      refine fx_ar (τ := 11) rfl rfl dX0_back_155 h (fun v21 h => ?_)
      refine am_goto (tgt := 160) dX0_back_156 (by decide) ?_
      refine fx_sr (τ := 11) (E := "PondHouse$Fixed") (cs := [23]) (v := v21) rfl (f_clsC inf_X25 (Or.inl rfl) f_cls0) dX0_back_160 h (fun σ22 h => ?_)
      refine am_iinc (x := x2) (v := (x2 + 1)) (L' := [(4, .int (x2 + 1)), (6, va_rf v15), (0, va_rf (some a0)), (2, va_rf x1)]) dX0_back_161 rfl rfl (Nat.le_of_ble_eq_true rfl) rfl ?_
      refine am_goto (tgt := 112) dX0_back_164 (by decide) ?_
      exact am_lss h rfl
theorem W_X0_find_f {G : am_G} {d : Nat} {a1 : Option Nat} {a2 : Int32} {σ : am_S} {Q : Int32 → am_S → Prop} (h : B_X0_find_2 G d a1 a2 0 σ Q) : W_X0_find G d a1 a2 σ Q := by
  unfold W_X0_find
  refine am_iconst (v := 0) dX0_find_0 (by decide) ?_
  refine am_istore_n (L' := [(4, .int 0), (0, va_rf a1), (2, .int a2)]) dX0_find_1 rfl (Nat.le_of_ble_eq_true rfl) rfl ?_
  exact am_lss h rfl
theorem B_X0_find_2_f {G : am_G} {d : Nat} {x0 : Option Nat} {x1 : Int32} {x2 : Int32} {σ : am_S} {Q : Int32 → am_S → Prop} (h : f_al σ x0 9 (fun v1 => ((v1 ≤ x2 → Q (-1) σ) ∧ (¬ v1 ≤ x2 → f_ar σ x0 9 x2 (fun v2 => f_gi σ v2 [21] 0 (fun v3 => ((¬ v3 = x1 → B_X0_find_2 G d x0 x1 (x2 + 1) σ Q) ∧ (v3 = x1 → Q x2 σ)))))))) : B_X0_find_2 G d x0 x1 x2 σ Q := by
  unfold B_X0_find_2
  refine am_iload_n (x := x2) dX0_find_2 rfl rfl ?_
  refine am_aloadr_n (x := x0) dX0_find_3 rfl rfl ?_
  refine fx_al (τ := 9) rfl dX0_find_4 h (fun v1 h => ?_)
  refine am_icmp_ge (tgt := 26) dX0_find_5 (by decide) (fun c => ?_) (fun c => ?_)
  · have h := h.1 c
    refine am_iconst (v := (-1)) dX0_find_26 (by decide) ?_
    exact am_iret rfl dX0_find_27 h
  · have h := h.2 c
    refine am_aloadr_n (x := x0) dX0_find_8 rfl rfl ?_
    refine am_iload_n (x := x2) dX0_find_9 rfl rfl ?_
    refine fx_ar (τ := 9) rfl rfl dX0_find_10 h (fun v2 h => ?_)
    refine fx_gi (k := 0) (f_fldC (ref := "PondHouse$Kind") inf_X23 (by decide) q907 (Or.inl rfl) f_fld0) dX0_find_11 h (fun v3 h => ?_)
    refine am_iload_n (x := x1) dX0_find_14 rfl rfl ?_
    refine am_icmp_ne (tgt := 20) dX0_find_15 (by decide) (fun c => ?_) (fun c => ?_)
    · have h := h.1 c
      refine am_iinc (x := x2) (v := (x2 + 1)) (L' := [(4, .int (x2 + 1)), (0, va_rf x0), (2, .int x1)]) dX0_find_20 rfl rfl (Nat.le_of_ble_eq_true rfl) rfl ?_
      refine am_goto (tgt := 2) dX0_find_23 (by decide) ?_
      exact am_lss h rfl
    · have h := h.2 c
      refine am_iload_n (x := x2) dX0_find_18 rfl rfl ?_
      exact am_iret rfl dX0_find_19 h
theorem W_X0_ends_f {G : am_G} {d : Nat} {a0 : Nat} {a1 : Option Nat} {σ : am_S} {Q : am_S → Prop} (h : f_p σ a1 [31] 1 (va_rf none) (fun σ1 => f_o σ1 (some a0) [0] (fun b => W_X0_endsLong G d b a1 σ1 (fun σ3 => Q σ3)))) : W_X0_ends G (d + 1) a0 a1 σ Q := by
  unfold W_X0_ends
  refine am_aloadr_n (x := a1) dX0_ends_0 rfl rfl ?_
  refine am_null dX0_ends_1 ?_
  refine fx_p (k := 1) (v := va_rf none) (f_putC inf_X34 (by decide) (f_nrf _ _) (f_frf _ _) q2253 (Or.inl rfl) f_put0) dX0_ends_2 h (fun σ1 h => ?_)
  refine am_aloadr_n (x := some a0) dX0_ends_5 rfl rfl ?_
  refine am_aloadr_n (x := a1) dX0_ends_6 rfl rfl ?_
  refine fx_callV (Mc := m_X0_endsLong) (as := [va_rf a1]) (cs := [0]) (r := (some a0)) (f_clsC inf_X0 qs1 f_cls0) bm_X0_endsLong q226 q228 (Nat.le_of_ble_eq_true rfl) dX0_ends_7 h (fun b h => mt_X0_endsLong (fx_k2v h (fun σ3 h => ?_) (fun q σ' h => h.elim)))
  exact am_vret rfl dX0_ends_10 h
theorem W_X0_endsLong_f {G : am_G} {d : Nat} {a0 : Nat} {a1 : Option Nat} {σ : am_S} {Q : am_S → Prop} (h : f_gr σ (some a0) [0] 35 (fun v1 => f_al σ v1 15 (fun v2 => B_X0_endsLong_11 G d a0 a1 v1 v2 0 σ Q))) : W_X0_endsLong G d a0 a1 σ Q := by
  unfold W_X0_endsLong
  refine am_aloadr_n (x := some a0) dX0_endsLong_0 rfl rfl ?_
  refine fx_gr (k := 35) (f_fldC (ref := "PondHouse") inf_X0 (by decide) q1275 (Or.inl rfl) f_fld0) dX0_endsLong_1 h (fun v1 h => ?_)
  refine am_astore_n (x := v1) (L' := [(4, va_rf v1), (0, va_rf (some a0)), (2, va_rf a1)]) dX0_endsLong_4 rfl (Nat.le_of_ble_eq_true rfl) rfl ?_
  refine am_aloadr_n (x := v1) dX0_endsLong_5 rfl rfl ?_
  refine fx_al (τ := 15) rfl dX0_endsLong_6 h (fun v2 h => ?_)
  refine am_istore_n (L' := [(6, .int v2), (4, va_rf v1), (0, va_rf (some a0)), (2, va_rf a1)]) dX0_endsLong_7 rfl (Nat.le_of_ble_eq_true rfl) rfl ?_
  refine am_iconst (v := 0) dX0_endsLong_8 (by decide) ?_
  refine am_istore (L' := [(8, .int 0), (6, .int v2), (4, va_rf v1), (0, va_rf (some a0)), (2, va_rf a1)]) dX0_endsLong_9 (Nat.le_of_ble_eq_true rfl) rfl ?_
  exact am_lss h rfl
theorem B_X0_endsLong_11_f {G : am_G} {d : Nat} {a0 : Nat} {x1 : Option Nat} {x2 : Option Nat} {x3 : Int32} {x4 : Int32} {σ : am_S} {Q : am_S → Prop} (h : ((x3 ≤ x4 → Q σ) ∧ (¬ x3 ≤ x4 → f_ar σ x2 15 x4 (fun v1 => ((v1 = none → B_X0_endsLong_11 G d a0 x1 x2 x3 (x4 + 1) σ Q) ∧ (¬ v1 = none → f_gi σ v1 [32] 5 (fun v2 => ((v2 = 0 → B_X0_endsLong_11 G d a0 x1 x2 x3 (x4 + 1) σ Q) ∧ (¬ v2 = 0 → f_gr σ v1 [32] 0 (fun v3 => f_gr σ v3 [1] 0 (fun v4 => ((v4 = x1 → f_p σ v1 [32] 5 (.int 0) (fun σ5 => f_p σ5 v1 [32] 3 (.int 3) (fun σ6 => B_X0_endsLong_11 G d a0 x1 x2 x3 (x4 + 1) σ6 Q))) ∧ (¬ v4 = x1 → B_X0_endsLong_11 G d a0 x1 x2 x3 (x4 + 1) σ Q))))))))))))) : B_X0_endsLong_11 G d a0 x1 x2 x3 x4 σ Q := by
  unfold B_X0_endsLong_11
  refine am_iload (x := x4) dX0_endsLong_11 rfl ?_
  refine am_iload_n (x := x3) dX0_endsLong_13 rfl rfl ?_
  refine am_icmp_ge (tgt := 69) dX0_endsLong_14 (by decide) (fun c => ?_) (fun c => ?_)
  · have h := h.1 c
    exact am_vret rfl dX0_endsLong_69 h
  · have h := h.2 c
    refine am_aloadr_n (x := x2) dX0_endsLong_17 rfl rfl ?_
    refine am_iload (x := x4) dX0_endsLong_18 rfl ?_
    refine fx_ar (τ := 15) rfl rfl dX0_endsLong_20 h (fun v1 h => ?_)
    refine am_astore (x := v1) (L' := [(10, va_rf v1), (2, va_rf x1), (4, va_rf x2), (6, .int x3), (8, .int x4)]) dX0_endsLong_21 (Nat.le_of_ble_eq_true rfl) rfl ?_
    refine am_aloadr (x := v1) dX0_endsLong_23 rfl ?_
    refine am_ifnullr (tgt := 63) dX0_endsLong_25 (by decide) (fun c => ?_) (fun c => ?_)
    · have h := h.1 c
      refine am_iinc (x := x4) (v := (x4 + 1)) (L' := [(8, .int (x4 + 1)), (10, va_rf v1), (2, va_rf x1), (4, va_rf x2), (6, .int x3)]) dX0_endsLong_63 rfl rfl (Nat.le_of_ble_eq_true rfl) rfl ?_
      refine am_goto (tgt := 11) dX0_endsLong_66 (by decide) ?_
      exact am_lss h rfl
    · have h := h.2 c
      refine am_aloadr (x := v1) dX0_endsLong_28 rfl ?_
      refine fx_gi (k := 5) (f_fldC (ref := "PondHouse$LongAct") inf_X35 (by decide) q349 (Or.inl rfl) f_fld0) dX0_endsLong_30 h (fun v2 h => ?_)
      refine am_if_eq (tgt := 63) dX0_endsLong_33 (by decide) (fun c => ?_) (fun c => ?_)
      · have h := h.1 c
        refine am_iinc (x := x4) (v := (x4 + 1)) (L' := [(8, .int (x4 + 1)), (10, va_rf v1), (2, va_rf x1), (4, va_rf x2), (6, .int x3)]) dX0_endsLong_63 rfl rfl (Nat.le_of_ble_eq_true rfl) rfl ?_
        refine am_goto (tgt := 11) dX0_endsLong_66 (by decide) ?_
        exact am_lss h rfl
      · have h := h.2 c
        refine am_aloadr (x := v1) dX0_endsLong_36 rfl ?_
        refine fx_gr (k := 0) (f_fldC (ref := "PondHouse$LongAct") inf_X35 (by decide) q343 (Or.inl rfl) f_fld0) dX0_endsLong_38 h (fun v3 h => ?_)
        refine fx_gr (k := 0) (f_fldC (ref := "PondHouse$Frame") inf_X1 (by decide) q310 (Or.inl rfl) f_fld0) dX0_endsLong_41 h (fun v4 h => ?_)
        refine am_aloadr_n (x := x1) dX0_endsLong_44 rfl rfl ?_
        refine am_acmp_eq (rx := v4) (ry := x1) (tgt := 51) dX0_endsLong_45 (by decide) (fun c => ?_) (fun c => ?_)
        · have h := h.1 c
          refine am_aloadr (x := v1) dX0_endsLong_51 rfl ?_
          refine am_iconst (v := 0) dX0_endsLong_53 (by decide) ?_
          refine fx_p (k := 5) (v := .int 0) (f_putC inf_X35 (by decide) rfl rfl q349 (Or.inl rfl) f_put0) dX0_endsLong_54 h (fun σ5 h => ?_)
          refine am_aloadr (x := v1) dX0_endsLong_57 rfl ?_
          refine am_iconst (v := 3) dX0_endsLong_59 (by decide) ?_
          refine fx_p (k := 3) (v := .int 3) (f_putC inf_X35 (by decide) rfl rfl q346 (Or.inl rfl) f_put0) dX0_endsLong_60 h (fun σ6 h => ?_)
          refine am_iinc (x := x4) (v := (x4 + 1)) (L' := [(8, .int (x4 + 1)), (10, va_rf v1), (2, va_rf x1), (4, va_rf x2), (6, .int x3)]) dX0_endsLong_63 rfl rfl (Nat.le_of_ble_eq_true rfl) rfl ?_
          refine am_goto (tgt := 11) dX0_endsLong_66 (by decide) ?_
          exact am_lss h rfl
        · have h := h.2 c
          refine am_goto (tgt := 63) dX0_endsLong_48 (by decide) ?_
          refine am_iinc (x := x4) (v := (x4 + 1)) (L' := [(8, .int (x4 + 1)), (10, va_rf v1), (2, va_rf x1), (4, va_rf x2), (6, .int x3)]) dX0_endsLong_63 rfl rfl (Nat.le_of_ble_eq_true rfl) rfl ?_
          refine am_goto (tgt := 11) dX0_endsLong_66 (by decide) ?_
          exact am_lss h rfl
theorem W_X0_returns_f {G : am_G} {d : Nat} {a0 : Nat} {a1 : Option Nat} {a2 : Option Nat} {σ : am_S} {Q : am_S → Prop} (h : f_o σ a2 [21] (fun b => W_X23_all G d b σ (fun v1 σ2 => f_na G σ2 0 f_a0i v1 (fun n5 σ6 => f_al σ6 (some n5) 0 (fun v7 => f_na G σ6 3 f_a0i v7 (fun n8 σ9 => B_X0_returns_16 G (d + 1) a0 a1 a2 (some n5) (some n8) 0 σ9 Q)))))) : W_X0_returns G (d + 1) a0 a1 a2 σ Q := by
  unfold W_X0_returns
  refine am_aloadr_n (x := a2) dX0_returns_0 rfl rfl ?_
  refine fx_callV (Mc := m_X23_all) (as := []) (cs := [21]) (r := a2) (f_clsC inf_X23 q236 f_cls0) bm_X23_all q234 q235 (Nat.le_of_ble_eq_true rfl) dX0_returns_1 h (fun b h => mt_X23_all (fx_k2i h (fun v1 σ2 h => ?_) (fun q σ' h => h.elim)))
  refine fx_nai (atype := .int) (τ := 0) q281 rfl (fun N cA => rfl) dX0_returns_4 h (fun n5 σ6 h => ?_)
  refine am_astore_n (x := (some n5)) (L' := [(6, va_rf (some n5)), (0, va_rf (some a0)), (2, va_rf a1), (4, va_rf a2)]) dX0_returns_6 rfl (Nat.le_of_ble_eq_true rfl) rfl ?_
  refine am_aloadr_n (x := (some n5)) dX0_returns_7 rfl rfl ?_
  refine fx_al (τ := 0) rfl dX0_returns_8 h (fun v7 h => ?_)
  refine fx_nai (atype := .boolean) (τ := 3) q282 rfl (fun N cA => rfl) dX0_returns_9 h (fun n8 σ9 h => ?_)
  refine am_astore (x := (some n8)) (L' := [(8, va_rf (some n8)), (6, va_rf (some n5)), (0, va_rf (some a0)), (2, va_rf a1), (4, va_rf a2)]) dX0_returns_11 (Nat.le_of_ble_eq_true rfl) rfl ?_
  refine am_iconst (v := 0) dX0_returns_13 (by decide) ?_
  refine am_istore (L' := [(10, .int 0), (8, va_rf (some n8)), (6, va_rf (some n5)), (0, va_rf (some a0)), (2, va_rf a1), (4, va_rf a2)]) dX0_returns_14 (Nat.le_of_ble_eq_true rfl) rfl ?_
  exact am_lss h rfl
theorem B_X0_returns_16_f {G : am_G} {d : Nat} {a0 : Nat} {x1 : Option Nat} {x2 : Option Nat} {x3 : Option Nat} {x4 : Option Nat} {x5 : Int32} {σ : am_S} {Q : am_S → Prop} (h : f_gr σ x1 [31] 2 (fun v1 => f_al σ v1 0 (fun v2 => ((v2 ≤ x5 → B_X0_returns_81 G (d + 1) a0 x1 x2 x3 x4 0 σ Q) ∧ (¬ v2 ≤ x5 → f_gr σ x1 [31] 1 (fun v3 => f_gr σ (some a0) [0] 3 (fun v4 => f_gr σ (some a0) [0] 32 (fun v5 => W_X0_comes G d v3 x5 x2 v4 v5 σ (fun v6 σ7 => ((¬ v6 = (-1) → f_gr σ7 x1 [31] 2 (fun v10 => f_ai σ7 v10 0 x5 (fun v11 => f_si σ7 x3 0 v6 v11 (fun σ12 => f_si σ12 x4 3 v6 1 (fun σ13 => B_X0_returns_16 G (d + 1) a0 x1 x2 x3 x4 (x5 + 1) σ13 Q))))) ∧ (v6 = (-1) → B_X0_returns_16 G (d + 1) a0 x1 x2 x3 x4 (x5 + 1) σ7 Q))))))))))) : B_X0_returns_16 G (d + 1) a0 x1 x2 x3 x4 x5 σ Q := by
  unfold B_X0_returns_16
  refine am_iload (x := x5) dX0_returns_16 rfl ?_
  refine am_aloadr_n (x := x1) dX0_returns_18 rfl rfl ?_
  refine fx_gr (k := 2) (f_fldC (ref := "PondHouse$Creature") inf_X34 (by decide) q2255 (Or.inl rfl) f_fld0) dX0_returns_19 h (fun v1 h => ?_)
  refine fx_al (τ := 0) rfl dX0_returns_22 h (fun v2 h => ?_)
  refine am_icmp_ge (tgt := 78) dX0_returns_23 (by decide) (fun c => ?_) (fun c => ?_)
  · have h := h.1 c
    refine am_iconst (v := 0) dX0_returns_78 (by decide) ?_
    refine am_istore (L' := [(10, .int 0), (0, va_rf (some a0)), (2, va_rf x1), (4, va_rf x2), (6, va_rf x3), (8, va_rf x4)]) dX0_returns_79 (Nat.le_of_ble_eq_true rfl) rfl ?_
    exact am_lss h rfl
  · have h := h.2 c
    refine am_aloadr_n (x := x1) dX0_returns_26 rfl rfl ?_
    refine fx_gr (k := 1) (f_fldC (ref := "PondHouse$Creature") inf_X34 (by decide) q2253 (Or.inl rfl) f_fld0) dX0_returns_27 h (fun v3 h => ?_)
    refine am_iload (x := x5) dX0_returns_30 rfl ?_
    refine am_aloadr_n (x := x2) dX0_returns_32 rfl rfl ?_
    refine am_aloadr_n (x := some a0) dX0_returns_33 rfl rfl ?_
    refine fx_gr (k := 3) (f_fldC (ref := "PondHouse") inf_X0 (by decide) q1240 (Or.inl rfl) f_fld0) dX0_returns_34 h (fun v4 h => ?_)
    refine am_aloadr_n (x := some a0) dX0_returns_37 rfl rfl ?_
    refine fx_gr (k := 32) (f_fldC (ref := "PondHouse") inf_X0 (by decide) q1272 (Or.inl rfl) f_fld0) dX0_returns_38 h (fun v5 h => ?_)
    refine fx_callS (Mc := m_X0_comes) (as := [va_rf v3, .int x5, va_rf x2, va_rf v4, va_rf v5]) bm_X0_comes q239 q240 (Nat.le_of_ble_eq_true rfl) dX0_returns_41 (mt_X0_comes (fx_k2i h (fun v6 σ7 h => ?_) (fun q σ' h => h.elim)))
    refine am_istore (L' := [(12, .int v6), (0, va_rf (some a0)), (2, va_rf x1), (4, va_rf x2), (6, va_rf x3), (8, va_rf x4), (10, .int x5)]) dX0_returns_44 (Nat.le_of_ble_eq_true rfl) rfl ?_
    refine am_iload (x := v6) dX0_returns_46 rfl ?_
    refine am_iconst (v := (-1)) dX0_returns_48 (by decide) ?_
    refine am_icmp_ne (tgt := 55) dX0_returns_49 (by decide) (fun c => ?_) (fun c => ?_)
    · have h := h.1 c
      refine am_aloadr_n (x := x3) dX0_returns_55 rfl rfl ?_
      refine am_iload (x := v6) dX0_returns_56 rfl ?_
      refine am_aloadr_n (x := x1) dX0_returns_58 rfl rfl ?_
      refine fx_gr (k := 2) (f_fldC (ref := "PondHouse$Creature") inf_X34 (by decide) q2255 (Or.inl rfl) f_fld0) dX0_returns_59 h (fun v10 h => ?_)
      refine am_iload (x := x5) dX0_returns_62 rfl ?_
      refine fx_ai0 dX0_returns_64 h (fun v11 h => ?_)
      refine fx_si0 dX0_returns_65 h (fun σ12 h => ?_)
      refine am_aloadr (x := x4) dX0_returns_66 rfl ?_
      refine am_iload (x := v6) dX0_returns_68 rfl ?_
      refine am_iconst (v := 1) dX0_returns_70 (by decide) ?_
      refine fx_si3 dX0_returns_71 h (fun σ13 h => ?_)
      refine am_iinc (x := x5) (v := (x5 + 1)) (L' := [(10, .int (x5 + 1)), (12, .int v6), (0, va_rf (some a0)), (2, va_rf x1), (4, va_rf x2), (6, va_rf x3), (8, va_rf x4)]) dX0_returns_72 rfl rfl (Nat.le_of_ble_eq_true rfl) rfl ?_
      refine am_goto (tgt := 16) dX0_returns_75 (by decide) ?_
      exact am_lss h rfl
    · have h := h.2 c
      refine am_goto (tgt := 72) dX0_returns_52 (by decide) ?_
      refine am_iinc (x := x5) (v := (x5 + 1)) (L' := [(10, .int (x5 + 1)), (12, .int v6), (0, va_rf (some a0)), (2, va_rf x1), (4, va_rf x2), (6, va_rf x3), (8, va_rf x4)]) dX0_returns_72 rfl rfl (Nat.le_of_ble_eq_true rfl) rfl ?_
      refine am_goto (tgt := 16) dX0_returns_75 (by decide) ?_
      exact am_lss h rfl
theorem B_X0_returns_81_f {G : am_G} {d : Nat} {a0 : Nat} {x1 : Option Nat} {x2 : Option Nat} {x3 : Option Nat} {x4 : Option Nat} {x5 : Int32} {σ : am_S} {Q : am_S → Prop} (h : f_al σ x3 0 (fun v1 => ((v1 ≤ x5 → f_p σ x1 [31] 1 (va_rf x2) (fun σ2 => f_p σ2 x1 [31] 2 (va_rf x3) (fun σ3 => Q σ3))) ∧ (¬ v1 ≤ x5 → f_o σ x2 [21] (fun b => W_X23_field G d b x5 σ (fun v4 σ5 => f_ai σ5 x4 3 x5 (fun v8 => ((¬ v8 = 0 → B_X0_returns_81 G (d + 1) a0 x1 x2 x3 x4 (x5 + 1) σ5 Q) ∧ (v8 = 0 → f_gr σ5 x1 [31] 4 (fun v9 => f_ai σ5 v9 3 v4 (fun v10 => ((v10 = 0 → f_o σ5 x2 [21] (fun b => W_X23_first G d b x5 σ5 (fun v11 σ12 => f_si σ12 x3 0 x5 v11 (fun σ15 => B_X0_returns_81 G (d + 1) a0 x1 x2 x3 x4 (x5 + 1) σ15 Q)))) ∧ (¬ v10 = 0 → f_gr σ5 x1 [31] 3 (fun v16 => f_ai σ5 v16 0 v4 (fun v17 => f_si σ5 x3 0 x5 v17 (fun σ18 => B_X0_returns_81 G (d + 1) a0 x1 x2 x3 x4 (x5 + 1) σ18 Q)))))))))))))))) : B_X0_returns_81 G (d + 1) a0 x1 x2 x3 x4 x5 σ Q := by
  unfold B_X0_returns_81
  refine am_iload (x := x5) dX0_returns_81 rfl ?_
  refine am_aloadr_n (x := x3) dX0_returns_83 rfl rfl ?_
  refine fx_al (τ := 0) rfl dX0_returns_84 h (fun v1 h => ?_)
  refine am_icmp_ge (tgt := 140) dX0_returns_85 (by decide) (fun c => ?_) (fun c => ?_)
  · have h := h.1 c
    refine am_aloadr_n (x := x1) dX0_returns_140 rfl rfl ?_
    refine am_aloadr_n (x := x2) dX0_returns_141 rfl rfl ?_
    refine fx_p (k := 1) (v := va_rf x2) (f_putC inf_X34 (by decide) (f_nrf _ _) (f_frf _ _) q2253 (Or.inl rfl) f_put0) dX0_returns_142 h (fun σ2 h => ?_)
    refine am_aloadr_n (x := x1) dX0_returns_145 rfl rfl ?_
    refine am_aloadr_n (x := x3) dX0_returns_146 rfl rfl ?_
    refine fx_p (k := 2) (v := va_rf x3) (f_putC inf_X34 (by decide) (f_nra _ _) (f_fra _ _) q2255 (Or.inl rfl) f_put0) dX0_returns_147 h (fun σ3 h => ?_)
    exact am_vret rfl dX0_returns_150 h
  · have h := h.2 c
    refine am_aloadr_n (x := x2) dX0_returns_88 rfl rfl ?_
    refine am_iload (x := x5) dX0_returns_89 rfl ?_
    refine fx_callV (Mc := m_X23_field) (as := [.int x5]) (cs := [21]) (r := x2) (f_clsC inf_X23 q249 f_cls0) bm_X23_field q247 q248 (Nat.le_of_ble_eq_true rfl) dX0_returns_91 h (fun b h => mt_X23_field (fx_k2i h (fun v4 σ5 h => ?_) (fun q σ' h => h.elim)))
    refine am_istore (L' := [(12, .int v4), (2, va_rf x1), (4, va_rf x2), (6, va_rf x3), (8, va_rf x4), (10, .int x5)]) dX0_returns_94 (Nat.le_of_ble_eq_true rfl) rfl ?_
    refine am_aloadr (x := x4) dX0_returns_96 rfl ?_
    refine am_iload (x := x5) dX0_returns_98 rfl ?_
    refine fx_ai3 dX0_returns_100 h (fun v8 h => ?_)
    refine am_if_ne (tgt := 134) dX0_returns_101 (by decide) (fun c => ?_) (fun c => ?_)
    · have h := h.1 c
      refine am_iinc (x := x5) (v := (x5 + 1)) (L' := [(10, .int (x5 + 1)), (12, .int v4), (2, va_rf x1), (4, va_rf x2), (6, va_rf x3), (8, va_rf x4)]) dX0_returns_134 rfl rfl (Nat.le_of_ble_eq_true rfl) rfl ?_
      refine am_goto (tgt := 81) dX0_returns_137 (by decide) ?_
      exact am_lss h rfl
    · have h := h.2 c
      refine am_aloadr_n (x := x3) dX0_returns_104 rfl rfl ?_
      refine am_iload (x := x5) dX0_returns_105 rfl ?_
      refine am_aloadr_n (x := x1) dX0_returns_107 rfl rfl ?_
      refine fx_gr (k := 4) (f_fldN (ref := "PondHouse$Creature") inf_X34 (by decide) q2259 rfl f_fld0) dX0_returns_108 h (fun v9 h => ?_)
      refine am_iload (x := v4) dX0_returns_111 rfl ?_
      refine fx_ai3 dX0_returns_113 h (fun v10 h => ?_)
      refine am_if_eq (tgt := 127) dX0_returns_114 (by decide) (fun c => ?_) (fun c => ?_)
      · have h := h.1 c
        refine am_aloadr_n (x := x2) dX0_returns_127 rfl rfl ?_
        refine am_iload (x := x5) dX0_returns_128 rfl ?_
        refine fx_callV (Mc := m_X23_first) (as := [.int x5]) (cs := [21]) (r := x2) (f_clsC inf_X23 q274 f_cls0) bm_X23_first q272 q273 (Nat.le_of_ble_eq_true rfl) dX0_returns_130 h (fun b h => mt_X23_first (fx_k2i h (fun v11 σ12 h => ?_) (fun q σ' h => h.elim)))
        refine fx_si0 dX0_returns_133 h (fun σ15 h => ?_)
        refine am_iinc (x := x5) (v := (x5 + 1)) (L' := [(10, .int (x5 + 1)), (12, .int v4), (2, va_rf x1), (4, va_rf x2), (6, va_rf x3), (8, va_rf x4)]) dX0_returns_134 rfl rfl (Nat.le_of_ble_eq_true rfl) rfl ?_
        refine am_goto (tgt := 81) dX0_returns_137 (by decide) ?_
        exact am_lss h rfl
      · have h := h.2 c
        refine am_aloadr_n (x := x1) dX0_returns_117 rfl rfl ?_
        refine fx_gr (k := 3) (f_fldN (ref := "PondHouse$Creature") inf_X34 (by decide) q2257 rfl f_fld0) dX0_returns_118 h (fun v16 h => ?_)
        refine am_iload (x := v4) dX0_returns_121 rfl ?_
        refine fx_ai0 dX0_returns_123 h (fun v17 h => ?_)
        refine am_goto (tgt := 133) dX0_returns_124 (by decide) ?_
        refine fx_si0 dX0_returns_133 h (fun σ18 h => ?_)
        refine am_iinc (x := x5) (v := (x5 + 1)) (L' := [(10, .int (x5 + 1)), (12, .int v4), (2, va_rf x1), (4, va_rf x2), (6, va_rf x3), (8, va_rf x4)]) dX0_returns_134 rfl rfl (Nat.le_of_ble_eq_true rfl) rfl ?_
        refine am_goto (tgt := 81) dX0_returns_137 (by decide) ?_
        exact am_lss h rfl
theorem W_X0_comes_f {G : am_G} {d : Nat} {a1 : Option Nat} {a2 : Int32} {a3 : Option Nat} {a4 : Option Nat} {a5 : Option Nat} {σ : am_S} {Q : Int32 → am_S → Prop} (h : f_o σ a1 [21] (fun b => W_X23_owner G d b a2 σ (fun v1 σ2 => f_o σ2 a1 [21] (fun b => W_X23_field G d b a2 σ2 (fun v5 σ6 => f_o σ6 a3 [21] (fun b => W_X23_place G d b v5 σ6 (fun v9 σ10 => W_X0_has G d a5 v1 σ10 (fun v13 σ14 => ((v13 = 0 → B_X0_comes_56 G (d + 1) a1 a2 a3 a4 a5 v1 v5 v9 v13 σ14 Q) ∧ (¬ v13 = 0 → ((v9 = (-1) → B_X0_comes_56 G (d + 1) a1 a2 a3 a4 a5 v1 v5 v9 v13 σ14 Q) ∧ (¬ v9 = (-1) → f_o σ14 a3 [21] (fun b => W_X23_owner G d b v9 σ14 (fun v17 σ18 => ((¬ v17 = v1 → B_X0_comes_56 G (d + 1) a1 a2 a3 a4 a5 v1 v5 v9 v13 σ18 Q) ∧ (v17 = v1 → Q v9 σ18)))))))))))))))) : W_X0_comes G (d + 1) a1 a2 a3 a4 a5 σ Q := by
  unfold W_X0_comes
  refine am_aloadr_n (x := a1) dX0_comes_0 rfl rfl ?_
  refine am_iload_n (x := a2) dX0_comes_1 rfl rfl ?_
  refine fx_callV (Mc := m_X23_owner) (as := [.int a2]) (cs := [21]) (r := a1) (f_clsC inf_X23 q244 f_cls0) bm_X23_owner q242 q243 (Nat.le_of_ble_eq_true rfl) dX0_comes_2 h (fun b h => mt_X23_owner (fx_k2r h (fun v1 σ2 h => ?_) (fun q σ' h => h.elim)))
  refine am_astore (x := v1) (L' := [(10, va_rf v1), (0, va_rf a1), (2, .int a2), (4, va_rf a3), (6, va_rf a4), (8, va_rf a5)]) dX0_comes_5 (Nat.le_of_ble_eq_true rfl) rfl ?_
  refine am_aloadr_n (x := a1) dX0_comes_7 rfl rfl ?_
  refine am_iload_n (x := a2) dX0_comes_8 rfl rfl ?_
  refine fx_callV (Mc := m_X23_field) (as := [.int a2]) (cs := [21]) (r := a1) (f_clsC inf_X23 q249 f_cls0) bm_X23_field q247 q248 (Nat.le_of_ble_eq_true rfl) dX0_comes_9 h (fun b h => mt_X23_field (fx_k2i h (fun v5 σ6 h => ?_) (fun q σ' h => h.elim)))
  refine am_istore (L' := [(12, .int v5), (10, va_rf v1), (0, va_rf a1), (2, .int a2), (4, va_rf a3), (6, va_rf a4), (8, va_rf a5)]) dX0_comes_12 (Nat.le_of_ble_eq_true rfl) rfl ?_
  refine am_aloadr_n (x := a3) dX0_comes_14 rfl rfl ?_
  refine am_iload (x := v5) dX0_comes_15 rfl ?_
  refine fx_callV (Mc := m_X23_place) (as := [.int v5]) (cs := [21]) (r := a3) (f_clsC inf_X23 q258 f_cls0) bm_X23_place q256 q257 (Nat.le_of_ble_eq_true rfl) dX0_comes_17 h (fun b h => mt_X23_place (fx_k2i h (fun v9 σ10 h => ?_) (fun q σ' h => h.elim)))
  refine am_istore (L' := [(14, .int v9), (12, .int v5), (10, va_rf v1), (0, va_rf a1), (2, .int a2), (4, va_rf a3), (6, va_rf a4), (8, va_rf a5)]) dX0_comes_20 (Nat.le_of_ble_eq_true rfl) rfl ?_
  refine am_aloadr (x := a5) dX0_comes_22 rfl ?_
  refine am_aloadr (x := v1) dX0_comes_24 rfl ?_
  refine fx_callS (Mc := m_X0_has) (as := [va_rf a5, va_rf v1]) bm_X0_has q261 q262 (Nat.le_of_ble_eq_true rfl) dX0_comes_26 (mt_X0_has (fx_k2i h (fun v13 σ14 h => ?_) (fun q σ' h => h.elim)))
  refine am_istore (L' := [(16, .int v13), (14, .int v9), (12, .int v5), (10, va_rf v1), (0, va_rf a1), (2, .int a2), (4, va_rf a3), (6, va_rf a4), (8, va_rf a5)]) dX0_comes_29 (Nat.le_of_ble_eq_true rfl) rfl ?_
  refine am_iload (x := v13) dX0_comes_31 rfl ?_
  refine am_if_eq (tgt := 56) dX0_comes_33 (by decide) (fun c => ?_) (fun c => ?_)
  · have h := h.1 c
    exact am_lss h rfl
  · have h := h.2 c
    refine am_iload (x := v9) dX0_comes_36 rfl ?_
    refine am_iconst (v := (-1)) dX0_comes_38 (by decide) ?_
    refine am_icmp_eq (tgt := 56) dX0_comes_39 (by decide) (fun c => ?_) (fun c => ?_)
    · have h := h.1 c
      exact am_lss h rfl
    · have h := h.2 c
      refine am_aloadr_n (x := a3) dX0_comes_42 rfl rfl ?_
      refine am_iload (x := v9) dX0_comes_43 rfl ?_
      refine fx_callV (Mc := m_X23_owner) (as := [.int v9]) (cs := [21]) (r := a3) (f_clsC inf_X23 q244 f_cls0) bm_X23_owner q242 q243 (Nat.le_of_ble_eq_true rfl) dX0_comes_45 h (fun b h => mt_X23_owner (fx_k2r h (fun v17 σ18 h => ?_) (fun q σ' h => h.elim)))
      refine am_aloadr (x := v1) dX0_comes_48 rfl ?_
      refine am_acmp_ne (rx := v17) (ry := v1) (tgt := 56) dX0_comes_50 (by decide) (fun c => ?_) (fun c => ?_)
      · have h := h.1 c
        exact am_lss h rfl
      · have h := h.2 c
        refine am_iload (x := v9) dX0_comes_53 rfl ?_
        exact am_iret rfl dX0_comes_55 h
theorem B_X0_comes_56_f {G : am_G} {d : Nat} {x0 : Option Nat} {x1 : Int32} {x2 : Option Nat} {x3 : Option Nat} {x4 : Option Nat} {x5 : Option Nat} {x6 : Int32} {x7 : Int32} {x8 : Int32} {σ : am_S} {Q : Int32 → am_S → Prop} (h : ((¬ x8 = 0 → B_X0_comes_107 G (d + 1) x2 x3 x4 x5 x6 x7 σ Q) ∧ (x8 = 0 → f_o σ x0 [21] (fun b => W_X23_former G d b x1 σ (fun v1 σ2 => ((v1 = (-1) → B_X0_comes_107 G (d + 1) x2 x3 x4 x5 x6 x7 σ2 Q) ∧ (¬ v1 = (-1) → f_o σ2 x0 [21] (fun b => W_X23_former G d b x1 σ2 (fun v5 σ6 => f_o σ6 x2 [21] (fun b => W_X23_place G d b v5 σ6 (fun v9 σ10 => ((v9 = (-1) → B_X0_comes_107 G (d + 1) x2 x3 x4 x5 x6 x7 σ10 Q) ∧ (¬ v9 = (-1) → f_o σ10 x2 [21] (fun b => W_X23_owner G d b v9 σ10 (fun v13 σ14 => f_gi σ14 v13 [21] 0 (fun v17 => f_gi σ14 x5 [21] 0 (fun v18 => ((¬ v17 = v18 → B_X0_comes_107 G (d + 1) x2 x3 x4 x5 x6 x7 σ14 Q) ∧ (v17 = v18 → Q v9 σ14))))))))))))))))))) : B_X0_comes_56 G (d + 1) x0 x1 x2 x3 x4 x5 x6 x7 x8 σ Q := by
  unfold B_X0_comes_56
  refine am_iload (x := x8) dX0_comes_56 rfl ?_
  refine am_if_ne (tgt := 107) dX0_comes_58 (by decide) (fun c => ?_) (fun c => ?_)
  · have h := h.1 c
    exact am_lss h rfl
  · have h := h.2 c
    refine am_aloadr_n (x := x0) dX0_comes_61 rfl rfl ?_
    refine am_iload_n (x := x1) dX0_comes_62 rfl rfl ?_
    refine fx_callV (Mc := m_X23_former) (as := [.int x1]) (cs := [21]) (r := x0) (f_clsC inf_X23 q266 f_cls0) bm_X23_former q264 q265 (Nat.le_of_ble_eq_true rfl) dX0_comes_63 h (fun b h => mt_X23_former (fx_k2i h (fun v1 σ2 h => ?_) (fun q σ' h => h.elim)))
    refine am_iconst (v := (-1)) dX0_comes_66 (by decide) ?_
    refine am_icmp_eq (tgt := 107) dX0_comes_67 (by decide) (fun c => ?_) (fun c => ?_)
    · have h := h.1 c
      exact am_lss h rfl
    · have h := h.2 c
      refine am_aloadr_n (x := x2) dX0_comes_70 rfl rfl ?_
      refine am_aloadr_n (x := x0) dX0_comes_71 rfl rfl ?_
      refine am_iload_n (x := x1) dX0_comes_72 rfl rfl ?_
      refine fx_callV (Mc := m_X23_former) (as := [.int x1]) (cs := [21]) (r := x0) (f_clsC inf_X23 q266 f_cls0) bm_X23_former q264 q265 (Nat.le_of_ble_eq_true rfl) dX0_comes_73 h (fun b h => mt_X23_former (fx_k2i h (fun v5 σ6 h => ?_) (fun q σ' h => h.elim)))
      refine fx_callV (Mc := m_X23_place) (as := [.int v5]) (cs := [21]) (r := x2) (f_clsC inf_X23 q258 f_cls0) bm_X23_place q256 q257 (Nat.le_of_ble_eq_true rfl) dX0_comes_76 h (fun b h => mt_X23_place (fx_k2i h (fun v9 σ10 h => ?_) (fun q σ' h => h.elim)))
      refine am_istore (L' := [(18, .int v9), (0, va_rf x0), (2, .int x1), (4, va_rf x2), (6, va_rf x3), (8, va_rf x4), (10, va_rf x5), (12, .int x6), (14, .int x7), (16, .int x8)]) dX0_comes_79 (Nat.le_of_ble_eq_true rfl) rfl ?_
      refine am_iload (x := v9) dX0_comes_81 rfl ?_
      refine am_iconst (v := (-1)) dX0_comes_83 (by decide) ?_
      refine am_icmp_eq (tgt := 107) dX0_comes_84 (by decide) (fun c => ?_) (fun c => ?_)
      · have h := h.1 c
        exact am_lss h rfl
      · have h := h.2 c
        refine am_aloadr_n (x := x2) dX0_comes_87 rfl rfl ?_
        refine am_iload (x := v9) dX0_comes_88 rfl ?_
        refine fx_callV (Mc := m_X23_owner) (as := [.int v9]) (cs := [21]) (r := x2) (f_clsC inf_X23 q244 f_cls0) bm_X23_owner q242 q243 (Nat.le_of_ble_eq_true rfl) dX0_comes_90 h (fun b h => mt_X23_owner (fx_k2r h (fun v13 σ14 h => ?_) (fun q σ' h => h.elim)))
        refine fx_gi (k := 0) (f_fldC (ref := "PondHouse$Kind") inf_X23 (by decide) q907 (Or.inl rfl) f_fld0) dX0_comes_93 h (fun v17 h => ?_)
        refine am_aloadr (x := x5) dX0_comes_96 rfl ?_
        refine fx_gi (k := 0) (f_fldC (ref := "PondHouse$Kind") inf_X23 (by decide) q907 (Or.inl rfl) f_fld0) dX0_comes_98 h (fun v18 h => ?_)
        refine am_icmp_ne (tgt := 107) dX0_comes_101 (by decide) (fun c => ?_) (fun c => ?_)
        · have h := h.1 c
          exact am_lss h rfl
        · have h := h.2 c
          refine am_iload (x := v9) dX0_comes_104 rfl ?_
          exact am_iret rfl dX0_comes_106 h
theorem B_X0_comes_107_f {G : am_G} {d : Nat} {x2 : Option Nat} {x3 : Option Nat} {x4 : Option Nat} {x5 : Option Nat} {x6 : Int32} {x7 : Int32} {σ : am_S} {Q : Int32 → am_S → Prop} (h : ((x7 = (-1) → Q (-1) σ) ∧ (¬ x7 = (-1) → f_o σ x2 [21] (fun b => W_X23_owner G d b x7 σ (fun v1 σ2 => f_gi σ2 v1 [21] 0 (fun v5 => f_gi σ2 x5 [21] 0 (fun v6 => ((¬ v5 = v6 → f_o σ2 x2 [21] (fun b => W_X23_owner G d b x7 σ2 (fun v7 σ8 => f_gi σ8 v7 [21] 0 (fun v11 => W_X0_find G d x3 v11 σ8 (fun v12 σ13 => ((¬ v12 = (-1) → f_ar σ13 x3 9 v12 (fun v16 => W_X0_has G d x4 v16 σ13 (fun v17 σ18 => ((¬ v17 = 0 → Q x7 σ18) ∧ (v17 = 0 → f_ar σ18 x3 9 v12 (fun v21 => f_o σ18 v21 [21] (fun b => W_X23_holds G d b x6 σ18 (fun v22 σ23 => ((v22 = 0 → Q (-1) σ23) ∧ (¬ v22 = 0 → Q x7 σ23)))))))))) ∧ (v12 = (-1) → Q (-1) σ13))))))) ∧ (v5 = v6 → Q (-1) σ2))))))))) : B_X0_comes_107 G (d + 1) x2 x3 x4 x5 x6 x7 σ Q := by
  unfold B_X0_comes_107
  refine am_iload (x := x7) dX0_comes_107 rfl ?_
  refine am_iconst (v := (-1)) dX0_comes_109 (by decide) ?_
  refine am_icmp_eq (tgt := 130) dX0_comes_110 (by decide) (fun c => ?_) (fun c => ?_)
  · have h := h.1 c
    refine am_iconst (v := (-1)) dX0_comes_130 (by decide) ?_
    exact am_iret rfl dX0_comes_131 h
  · have h := h.2 c
    refine am_aloadr_n (x := x2) dX0_comes_113 rfl rfl ?_
    refine am_iload (x := x7) dX0_comes_114 rfl ?_
    refine fx_callV (Mc := m_X23_owner) (as := [.int x7]) (cs := [21]) (r := x2) (f_clsC inf_X23 q244 f_cls0) bm_X23_owner q242 q243 (Nat.le_of_ble_eq_true rfl) dX0_comes_116 h (fun b h => mt_X23_owner (fx_k2r h (fun v1 σ2 h => ?_) (fun q σ' h => h.elim)))
    refine fx_gi (k := 0) (f_fldC (ref := "PondHouse$Kind") inf_X23 (by decide) q907 (Or.inl rfl) f_fld0) dX0_comes_119 h (fun v5 h => ?_)
    refine am_aloadr (x := x5) dX0_comes_122 rfl ?_
    refine fx_gi (k := 0) (f_fldC (ref := "PondHouse$Kind") inf_X23 (by decide) q907 (Or.inl rfl) f_fld0) dX0_comes_124 h (fun v6 h => ?_)
    refine am_icmp_ne (tgt := 132) dX0_comes_127 (by decide) (fun c => ?_) (fun c => ?_)
    · have h := h.1 c
      refine am_aloadr_n (x := x3) dX0_comes_132 rfl rfl ?_
      refine am_aloadr_n (x := x2) dX0_comes_133 rfl rfl ?_
      refine am_iload (x := x7) dX0_comes_134 rfl ?_
      refine fx_callV (Mc := m_X23_owner) (as := [.int x7]) (cs := [21]) (r := x2) (f_clsC inf_X23 q244 f_cls0) bm_X23_owner q242 q243 (Nat.le_of_ble_eq_true rfl) dX0_comes_136 h (fun b h => mt_X23_owner (fx_k2r h (fun v7 σ8 h => ?_) (fun q σ' h => h.elim)))
      refine fx_gi (k := 0) (f_fldC (ref := "PondHouse$Kind") inf_X23 (by decide) q907 (Or.inl rfl) f_fld0) dX0_comes_139 h (fun v11 h => ?_)
      refine fx_callS (Mc := m_X0_find) (as := [va_rf x3, .int v11]) bm_X0_find q218 q219 (Nat.le_of_ble_eq_true rfl) dX0_comes_142 (mt_X0_find (fx_k2i h (fun v12 σ13 h => ?_) (fun q σ' h => h.elim)))
      refine am_istore (L' := [(18, .int v12), (4, va_rf x2), (6, va_rf x3), (8, va_rf x4), (10, va_rf x5), (12, .int x6), (14, .int x7)]) dX0_comes_145 (Nat.le_of_ble_eq_true rfl) rfl ?_
      refine am_iload (x := v12) dX0_comes_147 rfl ?_
      refine am_iconst (v := (-1)) dX0_comes_149 (by decide) ?_
      refine am_icmp_ne (tgt := 155) dX0_comes_150 (by decide) (fun c => ?_) (fun c => ?_)
      · have h := h.1 c
        refine am_aloadr (x := x4) dX0_comes_155 rfl ?_
        refine am_aloadr_n (x := x3) dX0_comes_157 rfl rfl ?_
        refine am_iload (x := v12) dX0_comes_158 rfl ?_
        refine fx_ar (τ := 9) rfl rfl dX0_comes_160 h (fun v16 h => ?_)
        refine fx_callS (Mc := m_X0_has) (as := [va_rf x4, va_rf v16]) bm_X0_has q261 q262 (Nat.le_of_ble_eq_true rfl) dX0_comes_161 (mt_X0_has (fx_k2i h (fun v17 σ18 h => ?_) (fun q σ' h => h.elim)))
        refine am_if_ne (tgt := 179) dX0_comes_164 (by decide) (fun c => ?_) (fun c => ?_)
        · have h := h.1 c
          refine am_iload (x := x7) dX0_comes_179 rfl ?_
          refine am_goto (tgt := 185) dX0_comes_181 (by decide) ?_
          exact am_iret rfl dX0_comes_185 h
        · have h := h.2 c
          refine am_aloadr_n (x := x3) dX0_comes_167 rfl rfl ?_
          refine am_iload (x := v12) dX0_comes_168 rfl ?_
          refine fx_ar (τ := 9) rfl rfl dX0_comes_170 h (fun v21 h => ?_)
          refine am_iload (x := x6) dX0_comes_171 rfl ?_
          refine fx_callV (Mc := m_X23_holds) (as := [.int x6]) (cs := [21]) (r := v21) (f_clsC inf_X23 q270 f_cls0) bm_X23_holds q268 q269 (Nat.le_of_ble_eq_true rfl) dX0_comes_173 h (fun b h => mt_X23_holds (fx_k2i h (fun v22 σ23 h => ?_) (fun q σ' h => h.elim)))
          refine am_if_eq (tgt := 184) dX0_comes_176 (by decide) (fun c => ?_) (fun c => ?_)
          · have h := h.1 c
            refine am_iconst (v := (-1)) dX0_comes_184 (by decide) ?_
            exact am_iret rfl dX0_comes_185 h
          · have h := h.2 c
            refine am_iload (x := x7) dX0_comes_179 rfl ?_
            refine am_goto (tgt := 185) dX0_comes_181 (by decide) ?_
            exact am_iret rfl dX0_comes_185 h
      · have h := h.2 c
        refine am_iconst (v := (-1)) dX0_comes_153 (by decide) ?_
        exact am_iret rfl dX0_comes_154 h
    · have h := h.2 c
      refine am_iconst (v := (-1)) dX0_comes_130 (by decide) ?_
      exact am_iret rfl dX0_comes_131 h
theorem W_X0_has_f {G : am_G} {d : Nat} {a1 : Option Nat} {a2 : Option Nat} {σ : am_S} {Q : Int32 → am_S → Prop} (h : f_al σ a1 9 (fun v1 => B_X0_has_8 G d a2 a1 v1 0 σ Q)) : W_X0_has G d a1 a2 σ Q := by
  unfold W_X0_has
  refine am_aloadr_n (x := a1) dX0_has_0 rfl rfl ?_
  refine am_astore_n (x := a1) (L' := [(4, va_rf a1), (0, va_rf a1), (2, va_rf a2)]) dX0_has_1 rfl (Nat.le_of_ble_eq_true rfl) rfl ?_
  refine am_aloadr_n (x := a1) dX0_has_2 rfl rfl ?_
  refine fx_al (τ := 9) rfl dX0_has_3 h (fun v1 h => ?_)
  refine am_istore_n (L' := [(6, .int v1), (4, va_rf a1), (0, va_rf a1), (2, va_rf a2)]) dX0_has_4 rfl (Nat.le_of_ble_eq_true rfl) rfl ?_
  refine am_iconst (v := 0) dX0_has_5 (by decide) ?_
  refine am_istore (L' := [(8, .int 0), (6, .int v1), (4, va_rf a1), (0, va_rf a1), (2, va_rf a2)]) dX0_has_6 (Nat.le_of_ble_eq_true rfl) rfl ?_
  exact am_lss h rfl
theorem B_X0_has_8_f {G : am_G} {d : Nat} {x1 : Option Nat} {x2 : Option Nat} {x3 : Int32} {x4 : Int32} {σ : am_S} {Q : Int32 → am_S → Prop} (h : ((x3 ≤ x4 → Q 0 σ) ∧ (¬ x3 ≤ x4 → f_ar σ x2 9 x4 (fun v1 => ((¬ v1 = x1 → B_X0_has_8 G d x1 x2 x3 (x4 + 1) σ Q) ∧ (v1 = x1 → Q 1 σ)))))) : B_X0_has_8 G d x1 x2 x3 x4 σ Q := by
  unfold B_X0_has_8
  refine am_iload (x := x4) dX0_has_8 rfl ?_
  refine am_iload_n (x := x3) dX0_has_10 rfl rfl ?_
  refine am_icmp_ge (tgt := 34) dX0_has_11 (by decide) (fun c => ?_) (fun c => ?_)
  · have h := h.1 c
    refine am_iconst (v := 0) dX0_has_34 (by decide) ?_
    exact am_zret rfl rfl dX0_has_35 h
  · have h := h.2 c
    refine am_aloadr_n (x := x2) dX0_has_14 rfl rfl ?_
    refine am_iload (x := x4) dX0_has_15 rfl ?_
    refine fx_ar (τ := 9) rfl rfl dX0_has_17 h (fun v1 h => ?_)
    refine am_astore (x := v1) (L' := [(10, va_rf v1), (2, va_rf x1), (4, va_rf x2), (6, .int x3), (8, .int x4)]) dX0_has_18 (Nat.le_of_ble_eq_true rfl) rfl ?_
    refine am_aloadr (x := v1) dX0_has_20 rfl ?_
    refine am_aloadr_n (x := x1) dX0_has_22 rfl rfl ?_
    refine am_acmp_ne (rx := v1) (ry := x1) (tgt := 28) dX0_has_23 (by decide) (fun c => ?_) (fun c => ?_)
    · have h := h.1 c
      refine am_iinc (x := x4) (v := (x4 + 1)) (L' := [(8, .int (x4 + 1)), (10, va_rf v1), (2, va_rf x1), (4, va_rf x2), (6, .int x3)]) dX0_has_28 rfl rfl (Nat.le_of_ble_eq_true rfl) rfl ?_
      refine am_goto (tgt := 8) dX0_has_31 (by decide) ?_
      exact am_lss h rfl
    · have h := h.2 c
      refine am_iconst (v := 1) dX0_has_26 (by decide) ?_
      exact am_zret rfl rfl dX0_has_27 h
theorem W_X0_find_2_f {G : am_G} {d : Nat} {a1 : Option Nat} {a2 : Int32} {a3 : Int32} {σ : am_S} {Q : Option Nat → am_S → Prop} (h : f_al σ a1 11 (fun v1 => B_X0_find_2_9 G d a2 a3 a1 v1 0 σ Q)) : W_X0_find_2 G d a1 a2 a3 σ Q := by
  unfold W_X0_find_2
  refine am_aloadr_n (x := a1) dX0_find_2_0 rfl rfl ?_
  refine am_astore_n (x := a1) (L' := [(6, va_rf a1), (0, va_rf a1), (2, .int a2), (4, .int a3)]) dX0_find_2_1 rfl (Nat.le_of_ble_eq_true rfl) rfl ?_
  refine am_aloadr_n (x := a1) dX0_find_2_2 rfl rfl ?_
  refine fx_al (τ := 11) rfl dX0_find_2_3 h (fun v1 h => ?_)
  refine am_istore (L' := [(8, .int v1), (6, va_rf a1), (0, va_rf a1), (2, .int a2), (4, .int a3)]) dX0_find_2_4 (Nat.le_of_ble_eq_true rfl) rfl ?_
  refine am_iconst (v := 0) dX0_find_2_6 (by decide) ?_
  refine am_istore (L' := [(10, .int 0), (8, .int v1), (6, va_rf a1), (0, va_rf a1), (2, .int a2), (4, .int a3)]) dX0_find_2_7 (Nat.le_of_ble_eq_true rfl) rfl ?_
  exact am_lss h rfl
theorem B_X0_find_2_9_f {G : am_G} {d : Nat} {x1 : Int32} {x2 : Int32} {x3 : Option Nat} {x4 : Int32} {x5 : Int32} {σ : am_S} {Q : Option Nat → am_S → Prop} (h : ((x4 ≤ x5 → Q none σ) ∧ (¬ x4 ≤ x5 → f_ar σ x3 11 x5 (fun v1 => f_gi σ v1 [23] 0 (fun v2 => ((¬ v2 = x1 → B_X0_find_2_9 G d x1 x2 x3 x4 (x5 + 1) σ Q) ∧ (v2 = x1 → f_gi σ v1 [23] 1 (fun v3 => ((¬ v3 = x2 → B_X0_find_2_9 G d x1 x2 x3 x4 (x5 + 1) σ Q) ∧ (v3 = x2 → Q v1 σ)))))))))) : B_X0_find_2_9 G d x1 x2 x3 x4 x5 σ Q := by
  unfold B_X0_find_2_9
  refine am_iload (x := x5) dX0_find_2_9 rfl ?_
  refine am_iload (x := x4) dX0_find_2_11 rfl ?_
  refine am_icmp_ge (tgt := 49) dX0_find_2_13 (by decide) (fun c => ?_) (fun c => ?_)
  · have h := h.1 c
    refine am_null dX0_find_2_49 ?_
    exact fx_aret rfl rfl dX0_find_2_50 h
  · have h := h.2 c
    refine am_aloadr_n (x := x3) dX0_find_2_16 rfl rfl ?_
    refine am_iload (x := x5) dX0_find_2_17 rfl ?_
    refine fx_ar (τ := 11) rfl rfl dX0_find_2_19 h (fun v1 h => ?_)
    refine am_astore (x := v1) (L' := [(12, va_rf v1), (2, .int x1), (4, .int x2), (6, va_rf x3), (8, .int x4), (10, .int x5)]) dX0_find_2_20 (Nat.le_of_ble_eq_true rfl) rfl ?_
    refine am_aloadr (x := v1) dX0_find_2_22 rfl ?_
    refine fx_gi (k := 0) (f_fldC (ref := "PondHouse$Fixed") inf_X25 (by decide) q1004 (Or.inl rfl) f_fld0) dX0_find_2_24 h (fun v2 h => ?_)
    refine am_iload_n (x := x1) dX0_find_2_27 rfl rfl ?_
    refine am_icmp_ne (tgt := 43) dX0_find_2_28 (by decide) (fun c => ?_) (fun c => ?_)
    · have h := h.1 c
      refine am_iinc (x := x5) (v := (x5 + 1)) (L' := [(10, .int (x5 + 1)), (12, va_rf v1), (2, .int x1), (4, .int x2), (6, va_rf x3), (8, .int x4)]) dX0_find_2_43 rfl rfl (Nat.le_of_ble_eq_true rfl) rfl ?_
      refine am_goto (tgt := 9) dX0_find_2_46 (by decide) ?_
      exact am_lss h rfl
    · have h := h.2 c
      refine am_aloadr (x := v1) dX0_find_2_31 rfl ?_
      refine fx_gi (k := 1) (f_fldC (ref := "PondHouse$Fixed") inf_X25 (by decide) q1006 (Or.inl rfl) f_fld0) dX0_find_2_33 h (fun v3 h => ?_)
      refine am_iload_n (x := x2) dX0_find_2_36 rfl rfl ?_
      refine am_icmp_ne (tgt := 43) dX0_find_2_37 (by decide) (fun c => ?_) (fun c => ?_)
      · have h := h.1 c
        refine am_iinc (x := x5) (v := (x5 + 1)) (L' := [(10, .int (x5 + 1)), (12, va_rf v1), (2, .int x1), (4, .int x2), (6, va_rf x3), (8, .int x4)]) dX0_find_2_43 rfl rfl (Nat.le_of_ble_eq_true rfl) rfl ?_
        refine am_goto (tgt := 9) dX0_find_2_46 (by decide) ?_
        exact am_lss h rfl
      · have h := h.2 c
        refine am_aloadr (x := v1) dX0_find_2_40 rfl ?_
        exact fx_aret rfl rfl dX0_find_2_42 h
theorem W_X0_begin_f {G : am_G} {d : Nat} {a0 : Nat} {a1 : Int32} {a2 : Int32} {a3 : Int32} {σ : am_S} {Q : Int32 → am_S → Prop} (h : f_o σ (some a0) [0] (fun b => W_X0_living G d b a1 σ (fun v1 σ2 => ((¬ v1 = none → f_gr σ2 v1 [31] 1 (fun v5 => f_o σ2 v5 [21] (fun b => W_X23_body G d b a2 σ2 (fun v6 σ7 => B_X0_begin_30 G (d + 1) a0 a3 v1 v6 0 σ7 Q)))) ∧ (v1 = none → B_X0_begin_30 G (d + 1) a0 a3 v1 none 0 σ2 Q))))) : W_X0_begin G (d + 1) a0 a1 a2 a3 σ Q := by
  unfold W_X0_begin
  refine am_aloadr_n (x := some a0) dX0_begin_0 rfl rfl ?_
  refine am_iload_n (x := a1) dX0_begin_1 rfl rfl ?_
  refine fx_callV (Mc := m_X0_living) (as := [.int a1]) (cs := [0]) (r := (some a0)) (f_clsC inf_X0 qs4 f_cls0) bm_X0_living q287 q289 (Nat.le_of_ble_eq_true rfl) dX0_begin_2 h (fun b h => mt_X0_living (fx_k2r h (fun v1 σ2 h => ?_) (fun q σ' h => h.elim)))
  refine am_astore (x := v1) (L' := [(8, va_rf v1), (0, va_rf (some a0)), (2, .int a1), (4, .int a2), (6, .int a3)]) dX0_begin_5 (Nat.le_of_ble_eq_true rfl) rfl ?_
  refine am_aloadr (x := v1) dX0_begin_7 rfl ?_
  refine am_ifnonnullr (tgt := 16) dX0_begin_9 (by decide) (fun c => ?_) (fun c => ?_)
  · have h := h.1 c
    refine am_aloadr (x := v1) dX0_begin_16 rfl ?_
    refine fx_gr (k := 1) (f_fldC (ref := "PondHouse$Creature") inf_X34 (by decide) q2253 (Or.inl rfl) f_fld0) dX0_begin_18 h (fun v5 h => ?_)
    refine am_iload_n (x := a2) dX0_begin_21 rfl rfl ?_
    refine fx_callV (Mc := m_X23_body) (as := [.int a2]) (cs := [21]) (r := v5) (f_clsC inf_X23 q293 f_cls0) bm_X23_body q291 q292 (Nat.le_of_ble_eq_true rfl) dX0_begin_22 h (fun b h => mt_X23_body (fx_k2r h (fun v6 σ7 h => ?_) (fun q σ' h => h.elim)))
    refine am_astore (x := v6) (L' := [(10, va_rf v6), (8, va_rf v1), (0, va_rf (some a0)), (2, .int a1), (4, .int a2), (6, .int a3)]) dX0_begin_25 (Nat.le_of_ble_eq_true rfl) rfl ?_
    refine am_iconst (v := 0) dX0_begin_27 (by decide) ?_
    refine am_istore (L' := [(12, .int 0), (10, va_rf v6), (8, va_rf v1), (0, va_rf (some a0)), (2, .int a1), (4, .int a2), (6, .int a3)]) dX0_begin_28 (Nat.le_of_ble_eq_true rfl) rfl ?_
    exact am_lss h rfl
  · have h := h.2 c
    refine am_null dX0_begin_12 ?_
    refine am_goto (tgt := 25) dX0_begin_13 (by decide) ?_
    refine am_astore (x := none) (L' := [(10, va_rf none), (8, va_rf v1), (0, va_rf (some a0)), (2, .int a1), (4, .int a2), (6, .int a3)]) dX0_begin_25 (Nat.le_of_ble_eq_true rfl) rfl ?_
    refine am_iconst (v := 0) dX0_begin_27 (by decide) ?_
    refine am_istore (L' := [(12, .int 0), (10, va_rf none), (8, va_rf v1), (0, va_rf (some a0)), (2, .int a1), (4, .int a2), (6, .int a3)]) dX0_begin_28 (Nat.le_of_ble_eq_true rfl) rfl ?_
    exact am_lss h rfl
theorem B_X0_begin_30_f {G : am_G} {d : Nat} {a0 : Nat} {x3 : Int32} {x4 : Option Nat} {x5 : Option Nat} {x6 : Int32} {σ : am_S} {Q : Int32 → am_S → Prop} (h : ((10 ≤ x6 → B_X0_begin_66 G (d + 1) a0 x3 x4 x5 x6 σ Q) ∧ (¬ 10 ≤ x6 → f_gr σ (some a0) [0] 35 (fun v1 => f_ar σ v1 15 x6 (fun v2 => ((v2 = none → B_X0_begin_66 G (d + 1) a0 x3 x4 x5 x6 σ Q) ∧ (¬ v2 = none → f_gr σ (some a0) [0] 35 (fun v3 => f_ar σ v3 15 x6 (fun v4 => f_gi σ v4 [32] 5 (fun v5 => ((v5 = 0 → B_X0_begin_66 G (d + 1) a0 x3 x4 x5 x6 σ Q) ∧ (¬ v5 = 0 → B_X0_begin_30 G (d + 1) a0 x3 x4 x5 (x6 + 1) σ Q)))))))))))) : B_X0_begin_30 G (d + 1) a0 x3 x4 x5 x6 σ Q := by
  unfold B_X0_begin_30
  refine am_iload (x := x6) dX0_begin_30 rfl ?_
  refine am_bipush (v := 10) dX0_begin_32 (by decide) ?_
  refine am_icmp_ge (tgt := 66) dX0_begin_34 (by decide) (fun c => ?_) (fun c => ?_)
  · have h := h.1 c
    exact am_lss h rfl
  · have h := h.2 c
    refine am_aloadr_n (x := some a0) dX0_begin_37 rfl rfl ?_
    refine fx_gr (k := 35) (f_fldC (ref := "PondHouse") inf_X0 (by decide) q1275 (Or.inl rfl) f_fld0) dX0_begin_38 h (fun v1 h => ?_)
    refine am_iload (x := x6) dX0_begin_41 rfl ?_
    refine fx_ar (τ := 15) rfl rfl dX0_begin_43 h (fun v2 h => ?_)
    refine am_ifnullr (tgt := 66) dX0_begin_44 (by decide) (fun c => ?_) (fun c => ?_)
    · have h := h.1 c
      exact am_lss h rfl
    · have h := h.2 c
      refine am_aloadr_n (x := some a0) dX0_begin_47 rfl rfl ?_
      refine fx_gr (k := 35) (f_fldC (ref := "PondHouse") inf_X0 (by decide) q1275 (Or.inl rfl) f_fld0) dX0_begin_48 h (fun v3 h => ?_)
      refine am_iload (x := x6) dX0_begin_51 rfl ?_
      refine fx_ar (τ := 15) rfl rfl dX0_begin_53 h (fun v4 h => ?_)
      refine fx_gi (k := 5) (f_fldC (ref := "PondHouse$LongAct") inf_X35 (by decide) q349 (Or.inl rfl) f_fld0) dX0_begin_54 h (fun v5 h => ?_)
      refine am_if_eq (tgt := 66) dX0_begin_57 (by decide) (fun c => ?_) (fun c => ?_)
      · have h := h.1 c
        exact am_lss h rfl
      · have h := h.2 c
        refine am_iinc (x := x6) (v := (x6 + 1)) (L' := [(12, .int (x6 + 1)), (0, va_rf (some a0)), (6, .int x3), (8, va_rf x4), (10, va_rf x5)]) dX0_begin_60 rfl rfl (Nat.le_of_ble_eq_true rfl) rfl ?_
        refine am_goto (tgt := 30) dX0_begin_63 (by decide) ?_
        exact am_lss h rfl
theorem B_X0_begin_66_f {G : am_G} {d : Nat} {a0 : Nat} {x3 : Int32} {x4 : Option Nat} {x5 : Option Nat} {x6 : Int32} {σ : am_S} {Q : Int32 → am_S → Prop} (h : ((x5 = none → Q (-1) σ) ∧ (¬ x5 = none → ((¬ x6 = 10 → f_gr σ (some a0) [0] 35 (fun v1 => f_new G σ 32 7 tyX35 (fun n2 σ3 => f_new G σ3 1 5 tyX1 (fun n4 σ5 => W_X1_init G d n4 σ5 (fun σ7 => f_o σ7 (some n4) [1] (fun b => W_X1_begins G d b x4 x5 x3 σ7 (fun v10 σ11 => W_X35_init G d n2 v10 σ11 (fun σ15 => f_sr σ15 v1 15 [32] x6 (some n2) (fun σ18 => Q x6 σ18))))))))) ∧ (x6 = 10 → Q (-1) σ))))) : B_X0_begin_66 G (d + 1) a0 x3 x4 x5 x6 σ Q := by
  unfold B_X0_begin_66
  refine am_aloadr (x := x5) dX0_begin_66 rfl ?_
  refine am_ifnullr (tgt := 78) dX0_begin_68 (by decide) (fun c => ?_) (fun c => ?_)
  · have h := h.1 c
    refine am_iconst (v := (-1)) dX0_begin_78 (by decide) ?_
    exact am_iret rfl dX0_begin_79 h
  · have h := h.2 c
    refine am_iload (x := x6) dX0_begin_71 rfl ?_
    refine am_bipush (v := 10) dX0_begin_73 (by decide) ?_
    refine am_icmp_ne (tgt := 80) dX0_begin_75 (by decide) (fun c => ?_) (fun c => ?_)
    · have h := h.1 c
      refine am_aloadr_n (x := some a0) dX0_begin_80 rfl rfl ?_
      refine fx_gr (k := 35) (f_fldC (ref := "PondHouse") inf_X0 (by decide) q1275 (Or.inl rfl) f_fld0) dX0_begin_81 h (fun v1 h => ?_)
      refine am_iload (x := x6) dX0_begin_84 rfl ?_
      refine fx_new inf_X35 q296 q297 q213 dX0_begin_86 h (fun n2 σ3 h => ?_)
      refine am_dup dX0_begin_89 (am_rf_cat _) ?_
      refine fx_new inf_X1 q298 q299 q162 dX0_begin_90 h (fun n4 σ5 h => ?_)
      refine am_dup dX0_begin_93 (am_rf_cat _) ?_
      refine fx_callIN (Mc := m_X1_init) (as := []) bm_X1_init q300 q301 rfl rfl (Nat.le_of_ble_eq_true rfl) dX0_begin_94 (mt_X1_init (fx_k2v h (fun σ7 h => ?_) (fun q σ' h => h.elim)))
      refine am_aloadr (x := x4) dX0_begin_97 rfl ?_
      refine am_aloadr (x := x5) dX0_begin_99 rfl ?_
      refine am_iload_n (x := x3) dX0_begin_101 rfl rfl ?_
      refine fx_callV (Mc := m_X1_begins) (as := [va_rf x4, va_rf x5, .int x3]) (cs := [1]) (r := (some n4)) (f_clsC inf_X1 q336 f_cls0) bm_X1_begins q334 q335 (Nat.le_of_ble_eq_true rfl) dX0_begin_102 h (fun b h => mt_X1_begins (fx_k2r h (fun v10 σ11 h => ?_) (fun q σ' h => h.elim)))
      refine fx_callI (Mc := m_X35_init) (as := [va_rf v10]) bm_X35_init q338 q339 rfl rfl (Nat.le_of_ble_eq_true rfl) dX0_begin_105 (mt_X35_init (fx_k2v h (fun σ15 h => ?_) (fun q σ' h => h.elim)))
      refine fx_sr (τ := 15) (E := "PondHouse$LongAct") (cs := [32]) (v := (some n2)) rfl (f_clsC inf_X35 (Or.inl rfl) f_cls0) dX0_begin_108 h (fun σ18 h => ?_)
      refine am_iload (x := x6) dX0_begin_109 rfl ?_
      exact am_iret rfl dX0_begin_111 h
    · have h := h.2 c
      refine am_iconst (v := (-1)) dX0_begin_78 (by decide) ?_
      exact am_iret rfl dX0_begin_79 h
theorem W_X0_living_f {G : am_G} {d : Nat} {a0 : Nat} {a1 : Int32} {σ : am_S} {Q : Option Nat → am_S → Prop} (h : ((a1 < 0 → Q none σ) ∧ (¬ a1 < 0 → f_gi σ (some a0) [0] 6 (fun v1 => ((v1 ≤ a1 → Q none σ) ∧ (¬ v1 ≤ a1 → f_gr σ (some a0) [0] 5 (fun v2 => f_ar σ v2 12 a1 (fun v3 => f_gr σ v3 [31] 1 (fun v4 => ((v4 = none → Q none σ) ∧ (¬ v4 = none → f_gr σ (some a0) [0] 5 (fun v5 => f_ar σ v5 12 a1 (fun v6 => Q v6 σ))))))))))))) : W_X0_living G d a0 a1 σ Q := by
  unfold W_X0_living
  refine am_iload_n (x := a1) dX0_living_0 rfl rfl ?_
  refine am_if_lt (tgt := 33) dX0_living_1 (by decide) (fun c => ?_) (fun c => ?_)
  · have h := h.1 c
    refine am_null dX0_living_33 ?_
    exact fx_aret rfl rfl dX0_living_34 h
  · have h := h.2 c
    refine am_iload_n (x := a1) dX0_living_4 rfl rfl ?_
    refine am_aloadr_n (x := some a0) dX0_living_5 rfl rfl ?_
    refine fx_gi (k := 6) (f_fldC (ref := "PondHouse") inf_X0 (by decide) q1243 (Or.inl rfl) f_fld0) dX0_living_6 h (fun v1 h => ?_)
    refine am_icmp_ge (tgt := 33) dX0_living_9 (by decide) (fun c => ?_) (fun c => ?_)
    · have h := h.1 c
      refine am_null dX0_living_33 ?_
      exact fx_aret rfl rfl dX0_living_34 h
    · have h := h.2 c
      refine am_aloadr_n (x := some a0) dX0_living_12 rfl rfl ?_
      refine fx_gr (k := 5) (f_fldC (ref := "PondHouse") inf_X0 (by decide) q1242 (Or.inl rfl) f_fld0) dX0_living_13 h (fun v2 h => ?_)
      refine am_iload_n (x := a1) dX0_living_16 rfl rfl ?_
      refine fx_ar (τ := 12) rfl rfl dX0_living_17 h (fun v3 h => ?_)
      refine fx_gr (k := 1) (f_fldC (ref := "PondHouse$Creature") inf_X34 (by decide) q2253 (Or.inl rfl) f_fld0) dX0_living_18 h (fun v4 h => ?_)
      refine am_ifnullr (tgt := 33) dX0_living_21 (by decide) (fun c => ?_) (fun c => ?_)
      · have h := h.1 c
        refine am_null dX0_living_33 ?_
        exact fx_aret rfl rfl dX0_living_34 h
      · have h := h.2 c
        refine am_aloadr_n (x := some a0) dX0_living_24 rfl rfl ?_
        refine fx_gr (k := 5) (f_fldC (ref := "PondHouse") inf_X0 (by decide) q1242 (Or.inl rfl) f_fld0) dX0_living_25 h (fun v5 h => ?_)
        refine am_iload_n (x := a1) dX0_living_28 rfl rfl ?_
        refine fx_ar (τ := 12) rfl rfl dX0_living_29 h (fun v6 h => ?_)
        refine am_goto (tgt := 34) dX0_living_30 (by decide) ?_
        exact fx_aret rfl rfl dX0_living_34 h
theorem W_X0_under_f {G : am_G} {d : Nat} {a0 : Nat} {a1 : Int32} {a2 : Int32} {σ : am_S} {Q : Int32 → am_S → Prop} (h : f_o σ (some a0) [0] (fun b => W_X0_longAct G d b a1 σ (fun v1 σ2 => ((¬ v1 = none → ((a2 = 0 → f_gi σ2 v1 [32] 5 (fun v5 => ((v5 = 0 → Q 0 σ2) ∧ (¬ v5 = 0 → Q 1 σ2)))) ∧ (a2 = 1 → f_gi σ2 v1 [32] 2 (fun v6 => Q v6 σ2)) ∧ (a2 = 2 → f_gi σ2 v1 [32] 3 (fun v7 => Q v7 σ2)) ∧ (a2 = 3 → f_gr σ2 v1 [32] 0 (fun v8 => f_gr σ2 v8 [1] 1 (fun v9 => f_gr σ2 v9 [22] 0 (fun v10 => f_gi σ2 v10 [21] 1 (fun v11 => Q v11 σ2))))) ∧ (a2 = 4 → f_gi σ2 v1 [32] 6 (fun v12 => ((v12 = 0 → Q 0 σ2) ∧ (¬ v12 = 0 → Q 1 σ2)))) ∧ (a2 = 5 → f_gi σ2 v1 [32] 4 (fun v13 => Q v13 σ2)) ∧ (((a2 : Int32).toInt < 0 ∨ 5 < (a2 : Int32).toInt) → Q (-1) σ2))) ∧ (v1 = none → Q (-1) σ2))))) : W_X0_under G (d + 1) a0 a1 a2 σ Q := by
  unfold W_X0_under
  refine am_aloadr_n (x := some a0) dX0_under_0 rfl rfl ?_
  refine am_iload_n (x := a1) dX0_under_1 rfl rfl ?_
  refine fx_callV (Mc := m_X0_longAct) (as := [.int a1]) (cs := [0]) (r := (some a0)) (f_clsC inf_X0 qs5 f_cls0) bm_X0_longAct q370 q372 (Nat.le_of_ble_eq_true rfl) dX0_under_2 h (fun b h => mt_X0_longAct (fx_k2r h (fun v1 σ2 h => ?_) (fun q σ' h => h.elim)))
  refine am_astore_n (x := v1) (L' := [(6, va_rf v1), (0, va_rf (some a0)), (2, .int a1), (4, .int a2)]) dX0_under_5 rfl (Nat.le_of_ble_eq_true rfl) rfl ?_
  refine am_aloadr_n (x := v1) dX0_under_6 rfl rfl ?_
  refine am_ifnonnullr (tgt := 12) dX0_under_7 (by decide) (fun c => ?_) (fun c => ?_)
  · have h := h.1 c
    refine am_iload_n (x := a2) dX0_under_12 rfl rfl ?_
    by_cases c : (a2 : Int32).toInt < 0 ∨ 5 < (a2 : Int32).toInt
    · have h := h.2.2.2.2.2.2 c
      refine am_tableOut (tgt := 107) dX0_under_13 c (by decide) ?_
      refine am_iconst (v := (-1)) dX0_under_107 (by decide) ?_
      exact am_iret rfl dX0_under_108 h
    · obtain ⟨j, hj, e⟩ := am_tab (lo := 0) (n := 6) c
      match j, hj, e with
      | 0, hj, e =>
        have c : (a2 : Int32) = 0 := Int32.toInt_inj.mp (e.trans (by decide))
        have h := h.1 c
        refine am_tableIn (tgt := 52) dX0_under_13 (by rw [c]; decide) (by rw [c]; decide) (by rw [c]; rfl) (by decide) ?_
        refine am_aloadr_n (x := v1) dX0_under_52 rfl rfl ?_
        refine fx_gi (k := 5) (f_fldC (ref := "PondHouse$LongAct") inf_X35 (by decide) q349 (Or.inl rfl) f_fld0) dX0_under_53 h (fun v5 h => ?_)
        refine am_if_eq (tgt := 63) dX0_under_56 (by decide) (fun c => ?_) (fun c => ?_)
        · have h := h.1 c
          refine am_iconst (v := 0) dX0_under_63 (by decide) ?_
          exact am_iret rfl dX0_under_64 h
        · have h := h.2 c
          refine am_iconst (v := 1) dX0_under_59 (by decide) ?_
          refine am_goto (tgt := 64) dX0_under_60 (by decide) ?_
          exact am_iret rfl dX0_under_64 h
      | 1, hj, e =>
        have c : (a2 : Int32) = 1 := Int32.toInt_inj.mp (e.trans (by decide))
        have h := h.2.1 c
        refine am_tableIn (tgt := 65) dX0_under_13 (by rw [c]; decide) (by rw [c]; decide) (by rw [c]; rfl) (by decide) ?_
        refine am_aloadr_n (x := v1) dX0_under_65 rfl rfl ?_
        refine fx_gi (k := 2) (f_fldC (ref := "PondHouse$LongAct") inf_X35 (by decide) q345 (Or.inl rfl) f_fld0) dX0_under_66 h (fun v6 h => ?_)
        exact am_iret rfl dX0_under_69 h
      | 2, hj, e =>
        have c : (a2 : Int32) = 2 := Int32.toInt_inj.mp (e.trans (by decide))
        have h := h.2.2.1 c
        refine am_tableIn (tgt := 70) dX0_under_13 (by rw [c]; decide) (by rw [c]; decide) (by rw [c]; rfl) (by decide) ?_
        refine am_aloadr_n (x := v1) dX0_under_70 rfl rfl ?_
        refine fx_gi (k := 3) (f_fldC (ref := "PondHouse$LongAct") inf_X35 (by decide) q346 (Or.inl rfl) f_fld0) dX0_under_71 h (fun v7 h => ?_)
        exact am_iret rfl dX0_under_74 h
      | 3, hj, e =>
        have c : (a2 : Int32) = 3 := Int32.toInt_inj.mp (e.trans (by decide))
        have h := h.2.2.2.1 c
        refine am_tableIn (tgt := 75) dX0_under_13 (by rw [c]; decide) (by rw [c]; decide) (by rw [c]; rfl) (by decide) ?_
        refine am_aloadr_n (x := v1) dX0_under_75 rfl rfl ?_
        refine fx_gr (k := 0) (f_fldC (ref := "PondHouse$LongAct") inf_X35 (by decide) q343 (Or.inl rfl) f_fld0) dX0_under_76 h (fun v8 h => ?_)
        refine fx_gr (k := 1) (f_fldC (ref := "PondHouse$Frame") inf_X1 (by decide) q313 (Or.inl rfl) f_fld0) dX0_under_79 h (fun v9 h => ?_)
        refine fx_gr (k := 0) (f_fldC (ref := "PondHouse$Body") inf_X24 (by decide) q889 (Or.inl rfl) f_fld0) dX0_under_82 h (fun v10 h => ?_)
        refine fx_gi (k := 1) (f_fldC (ref := "PondHouse$Kind") inf_X23 (by decide) q909 (Or.inl rfl) f_fld0) dX0_under_85 h (fun v11 h => ?_)
        exact am_iret rfl dX0_under_88 h
      | 4, hj, e =>
        have c : (a2 : Int32) = 4 := Int32.toInt_inj.mp (e.trans (by decide))
        have h := h.2.2.2.2.1 c
        refine am_tableIn (tgt := 89) dX0_under_13 (by rw [c]; decide) (by rw [c]; decide) (by rw [c]; rfl) (by decide) ?_
        refine am_aloadr_n (x := v1) dX0_under_89 rfl rfl ?_
        refine fx_gi (k := 6) (f_fldC (ref := "PondHouse$LongAct") inf_X35 (by decide) q350 (Or.inl rfl) f_fld0) dX0_under_90 h (fun v12 h => ?_)
        refine am_if_eq (tgt := 100) dX0_under_93 (by decide) (fun c => ?_) (fun c => ?_)
        · have h := h.1 c
          refine am_iconst (v := 0) dX0_under_100 (by decide) ?_
          exact am_iret rfl dX0_under_101 h
        · have h := h.2 c
          refine am_iconst (v := 1) dX0_under_96 (by decide) ?_
          refine am_goto (tgt := 101) dX0_under_97 (by decide) ?_
          exact am_iret rfl dX0_under_101 h
      | 5, hj, e =>
        have c : (a2 : Int32) = 5 := Int32.toInt_inj.mp (e.trans (by decide))
        have h := h.2.2.2.2.2.1 c
        refine am_tableIn (tgt := 102) dX0_under_13 (by rw [c]; decide) (by rw [c]; decide) (by rw [c]; rfl) (by decide) ?_
        refine am_aloadr_n (x := v1) dX0_under_102 rfl rfl ?_
        refine fx_gi (k := 4) (f_fldC (ref := "PondHouse$LongAct") inf_X35 (by decide) q347 (Or.inl rfl) f_fld0) dX0_under_103 h (fun v13 h => ?_)
        exact am_iret rfl dX0_under_106 h
      | j + 6, hj, e => exact absurd hj (by omega)
  · have h := h.2 c
    refine am_iconst (v := (-1)) dX0_under_10 (by decide) ?_
    exact am_iret rfl dX0_under_11 h
theorem W_X0_longAct_f {G : am_G} {d : Nat} {a0 : Nat} {a1 : Int32} {σ : am_S} {Q : Option Nat → am_S → Prop} (h : ((a1 < 0 → Q none σ) ∧ (¬ a1 < 0 → ((10 ≤ a1 → Q none σ) ∧ (¬ 10 ≤ a1 → f_gr σ (some a0) [0] 35 (fun v1 => f_ar σ v1 15 a1 (fun v2 => Q v2 σ))))))) : W_X0_longAct G d a0 a1 σ Q := by
  unfold W_X0_longAct
  refine am_iload_n (x := a1) dX0_longAct_0 rfl rfl ?_
  refine am_if_lt (tgt := 19) dX0_longAct_1 (by decide) (fun c => ?_) (fun c => ?_)
  · have h := h.1 c
    refine am_null dX0_longAct_19 ?_
    exact fx_aret rfl rfl dX0_longAct_20 h
  · have h := h.2 c
    refine am_iload_n (x := a1) dX0_longAct_4 rfl rfl ?_
    refine am_bipush (v := 10) dX0_longAct_5 (by decide) ?_
    refine am_icmp_ge (tgt := 19) dX0_longAct_7 (by decide) (fun c => ?_) (fun c => ?_)
    · have h := h.1 c
      refine am_null dX0_longAct_19 ?_
      exact fx_aret rfl rfl dX0_longAct_20 h
    · have h := h.2 c
      refine am_aloadr_n (x := some a0) dX0_longAct_10 rfl rfl ?_
      refine fx_gr (k := 35) (f_fldC (ref := "PondHouse") inf_X0 (by decide) q1275 (Or.inl rfl) f_fld0) dX0_longAct_11 h (fun v1 h => ?_)
      refine am_iload_n (x := a1) dX0_longAct_14 rfl rfl ?_
      refine fx_ar (τ := 15) rfl rfl dX0_longAct_15 h (fun v2 h => ?_)
      refine am_goto (tgt := 20) dX0_longAct_16 (by decide) ?_
      exact fx_aret rfl rfl dX0_longAct_20 h
theorem W_X0_forbid_f {G : am_G} {d : Nat} {a0 : Nat} {a1 : Int32} {a2 : Int32} {σ : am_S} {Q : Int32 → am_S → Prop} (h : f_o σ (some a0) [0] (fun b => W_X0_longAct G d b a1 σ (fun v1 σ2 => ((v1 = none → Q 0 σ2) ∧ (¬ v1 = none → f_gi σ2 v1 [32] 5 (fun v5 => ((¬ v5 = 0 → ((a2 = 0 ∨ a2 = 1) ∧ f_p σ2 v1 [32] 6 (.int a2) (fun σ6 => Q 1 σ6))) ∧ (v5 = 0 → Q 0 σ2)))))))) : W_X0_forbid G (d + 1) a0 a1 a2 σ Q := by
  unfold W_X0_forbid
  refine am_aloadr_n (x := some a0) dX0_forbid_0 rfl rfl ?_
  refine am_iload_n (x := a1) dX0_forbid_1 rfl rfl ?_
  refine fx_callV (Mc := m_X0_longAct) (as := [.int a1]) (cs := [0]) (r := (some a0)) (f_clsC inf_X0 qs5 f_cls0) bm_X0_longAct q370 q372 (Nat.le_of_ble_eq_true rfl) dX0_forbid_2 h (fun b h => mt_X0_longAct (fx_k2r h (fun v1 σ2 h => ?_) (fun q σ' h => h.elim)))
  refine am_astore_n (x := v1) (L' := [(6, va_rf v1), (0, va_rf (some a0)), (2, .int a1), (4, .int a2)]) dX0_forbid_5 rfl (Nat.le_of_ble_eq_true rfl) rfl ?_
  refine am_aloadr_n (x := v1) dX0_forbid_6 rfl rfl ?_
  refine am_ifnullr (tgt := 17) dX0_forbid_7 (by decide) (fun c => ?_) (fun c => ?_)
  · have h := h.1 c
    refine am_iconst (v := 0) dX0_forbid_17 (by decide) ?_
    exact am_zret rfl rfl dX0_forbid_18 h
  · have h := h.2 c
    refine am_aloadr_n (x := v1) dX0_forbid_10 rfl rfl ?_
    refine fx_gi (k := 5) (f_fldC (ref := "PondHouse$LongAct") inf_X35 (by decide) q349 (Or.inl rfl) f_fld0) dX0_forbid_11 h (fun v5 h => ?_)
    refine am_if_ne (tgt := 19) dX0_forbid_14 (by decide) (fun c => ?_) (fun c => ?_)
    · have h := h.1 c
      refine am_aloadr_n (x := v1) dX0_forbid_19 rfl rfl ?_
      refine am_iload_n (x := a2) dX0_forbid_20 rfl rfl ?_
      refine fx_p (k := 6) (v := .int a2) (f_putC inf_X35 (by decide) (f_nz h.1) (f_fz h.1) q350 (Or.inl rfl) f_put0) dX0_forbid_21 h.2 (fun σ6 h => ?_)
      refine am_iconst (v := 1) dX0_forbid_24 (by decide) ?_
      exact am_zret rfl rfl dX0_forbid_25 h
    · have h := h.2 c
      refine am_iconst (v := 0) dX0_forbid_17 (by decide) ?_
      exact am_zret rfl rfl dX0_forbid_18 h
theorem W_X0_wake_f {G : am_G} {d : Nat} {a0 : Nat} {a1 : Int32} {σ : am_S} {Q : Int32 → am_S → Prop} (h : ((a1 < (-1) → Q 0 σ) ∧ (¬ a1 < (-1) → f_gi σ (some a0) [0] 1 (fun v1 => ((a1 < v1 → f_p σ (some a0) [0] 37 (.int a1) (fun σ2 => Q 1 σ2)) ∧ (¬ a1 < v1 → Q 0 σ)))))) : W_X0_wake G d a0 a1 σ Q := by
  unfold W_X0_wake
  refine am_iload_n (x := a1) dX0_wake_0 rfl rfl ?_
  refine am_iconst (v := (-1)) dX0_wake_1 (by decide) ?_
  refine am_icmp_lt (tgt := 13) dX0_wake_2 (by decide) (fun c => ?_) (fun c => ?_)
  · have h := h.1 c
    refine am_iconst (v := 0) dX0_wake_13 (by decide) ?_
    exact am_zret rfl rfl dX0_wake_14 h
  · have h := h.2 c
    refine am_iload_n (x := a1) dX0_wake_5 rfl rfl ?_
    refine am_aloadr_n (x := some a0) dX0_wake_6 rfl rfl ?_
    refine fx_gi (k := 1) (f_fldC (ref := "PondHouse") inf_X0 (by decide) q1237 (Or.inl rfl) f_fld0) dX0_wake_7 h (fun v1 h => ?_)
    refine am_icmp_lt (tgt := 15) dX0_wake_10 (by decide) (fun c => ?_) (fun c => ?_)
    · have h := h.1 c
      refine am_aloadr_n (x := some a0) dX0_wake_15 rfl rfl ?_
      refine am_iload_n (x := a1) dX0_wake_16 rfl rfl ?_
      refine fx_p (k := 37) (v := .int a1) (f_putC inf_X0 (by decide) rfl rfl q1277 (Or.inl rfl) f_put0) dX0_wake_17 h (fun σ2 h => ?_)
      refine am_iconst (v := 1) dX0_wake_20 (by decide) ?_
      exact am_zret rfl rfl dX0_wake_21 h
    · have h := h.2 c
      refine am_iconst (v := 0) dX0_wake_13 (by decide) ?_
      exact am_zret rfl rfl dX0_wake_14 h
theorem W_X0_beat_f {G : am_G} {d : Nat} {a0 : Nat} {σ : am_S} {Q : Int32 → am_S → Prop} (h : f_gi σ (some a0) [0] 36 (fun v1 => ((¬ v1 = 1000 → f_gi σ (some a0) [0] 36 (fun v2 => f_p σ (some a0) [0] 36 (.int (v2 + 1)) (fun σ3 => f_p σ3 (some a0) [0] 14 (.int 0) (fun σ4 => f_p σ4 (some a0) [0] 12 (.int 1) (fun σ5 => f_gr σ5 (some a0) [0] 38 (fun v6 => W_J8_fill G d v6 3 σ5 (fun σ8 => B_X0_beat_42 G (d + 1) a0 0 σ8 Q))))))) ∧ (v1 = 1000 → Q (-1) σ)))) : W_X0_beat G (d + 1) a0 σ Q := by
  unfold W_X0_beat
  refine am_aloadr_n (x := some a0) dX0_beat_0 rfl rfl ?_
  refine fx_gi (k := 36) (f_fldC (ref := "PondHouse") inf_X0 (by decide) q1276 (Or.inl rfl) f_fld0) dX0_beat_1 h (fun v1 h => ?_)
  refine am_sipush (v := 1000) dX0_beat_4 (by decide) ?_
  refine am_icmp_ne (tgt := 12) dX0_beat_7 (by decide) (fun c => ?_) (fun c => ?_)
  · have h := h.1 c
    refine am_aloadr_n (x := some a0) dX0_beat_12 rfl rfl ?_
    refine am_dup dX0_beat_13 (am_rf_cat _) ?_
    refine fx_gi (k := 36) (f_fldC (ref := "PondHouse") inf_X0 (by decide) q1276 (Or.inl rfl) f_fld0) dX0_beat_14 h (fun v2 h => ?_)
    refine am_iconst (v := 1) dX0_beat_17 (by decide) ?_
    refine am_iadd dX0_beat_18 ?_
    refine fx_p (k := 36) (v := .int (v2 + 1)) (f_putC inf_X0 (by decide) rfl rfl q1276 (Or.inl rfl) f_put0) dX0_beat_19 h (fun σ3 h => ?_)
    refine am_aloadr_n (x := some a0) dX0_beat_22 rfl rfl ?_
    refine am_iconst (v := 0) dX0_beat_23 (by decide) ?_
    refine fx_p (k := 14) (v := .int 0) (f_putC inf_X0 (by decide) rfl rfl q1252 (Or.inl rfl) f_put0) dX0_beat_24 h (fun σ4 h => ?_)
    refine am_aloadr_n (x := some a0) dX0_beat_27 rfl rfl ?_
    refine am_iconst (v := 1) dX0_beat_28 (by decide) ?_
    refine fx_p (k := 12) (v := .int 1) (f_putC inf_X0 (by decide) rfl rfl q1250 (Or.inl rfl) f_put0) dX0_beat_29 h (fun σ5 h => ?_)
    refine am_aloadr_n (x := some a0) dX0_beat_32 rfl rfl ?_
    refine fx_gr (k := 38) (f_fldC (ref := "PondHouse") inf_X0 (by decide) q1278 (Or.inl rfl) f_fld0) dX0_beat_33 h (fun v6 h => ?_)
    refine am_iconst (v := 3) dX0_beat_36 (by decide) ?_
    refine fx_callS (Mc := m_J8_fill) (as := [va_rf v6, .int 3]) bm_J8_fill q386 q387 (Nat.le_of_ble_eq_true rfl) dX0_beat_37 (mt_J8_fill (fx_k2v h (fun σ8 h => ?_) (fun q σ' h => h.elim)))
    refine am_iconst (v := 0) dX0_beat_40 (by decide) ?_
    refine am_istore_n (L' := [(2, .int 0), (0, va_rf (some a0))]) dX0_beat_41 rfl (Nat.le_of_ble_eq_true rfl) rfl ?_
    exact am_lss h rfl
  · have h := h.2 c
    refine am_iconst (v := (-1)) dX0_beat_10 (by decide) ?_
    exact am_iret rfl dX0_beat_11 h
theorem B_X0_beat_42_f {G : am_G} {d : Nat} {a0 : Nat} {x1 : Int32} {σ : am_S} {Q : Int32 → am_S → Prop} (h : f_gi σ (some a0) [0] 6 (fun v1 => ((v1 ≤ x1 → f_gr σ (some a0) [0] 35 (fun v2 => f_al σ v2 15 (fun v3 => B_X0_beat_114 G (d + 1) a0 v2 v3 0 σ Q))) ∧ (¬ v1 ≤ x1 → f_gr σ (some a0) [0] 5 (fun v4 => f_ar σ v4 12 x1 (fun v5 => f_gr σ v5 [31] 1 (fun v6 => ((v6 = none → B_X0_beat_42 G (d + 1) a0 (x1 + 1) σ Q) ∧ (¬ v6 = none → f_gr σ (some a0) [0] 38 (fun v7 => f_gi σ (some a0) [0] 37 (fun v8 => ((¬ v8 = (-1) → f_gr σ (some a0) [0] 5 (fun v9 => f_ar σ v9 12 x1 (fun v10 => f_gi σ (some a0) [0] 37 (fun v11 => f_gi σ (some a0) [0] 36 (fun v12 => f_o σ (some a0) [0] (fun b => W_X0_run G d b v10 v11 v12 σ (fun v13 σ14 => f_si σ14 v7 0 x1 v13 (fun σ17 => B_X0_beat_42 G (d + 1) a0 (x1 + 1) σ17 Q)))))))) ∧ (v8 = (-1) → f_si σ v7 0 x1 2 (fun σ18 => B_X0_beat_42 G (d + 1) a0 (x1 + 1) σ18 Q)))))))))))))) : B_X0_beat_42 G (d + 1) a0 x1 σ Q := by
  unfold B_X0_beat_42
  refine am_iload_n (x := x1) dX0_beat_42 rfl rfl ?_
  refine am_aloadr_n (x := some a0) dX0_beat_43 rfl rfl ?_
  refine fx_gi (k := 6) (f_fldC (ref := "PondHouse") inf_X0 (by decide) q1243 (Or.inl rfl) f_fld0) dX0_beat_44 h (fun v1 h => ?_)
  refine am_icmp_ge (tgt := 104) dX0_beat_47 (by decide) (fun c => ?_) (fun c => ?_)
  · have h := h.1 c
    refine am_aloadr_n (x := some a0) dX0_beat_104 rfl rfl ?_
    refine fx_gr (k := 35) (f_fldC (ref := "PondHouse") inf_X0 (by decide) q1275 (Or.inl rfl) f_fld0) dX0_beat_105 h (fun v2 h => ?_)
    refine am_astore_n (x := v2) (L' := [(2, va_rf v2), (0, va_rf (some a0))]) dX0_beat_108 rfl (Nat.le_of_ble_eq_true rfl) rfl ?_
    refine am_aloadr_n (x := v2) dX0_beat_109 rfl rfl ?_
    refine fx_al (τ := 15) rfl dX0_beat_110 h (fun v3 h => ?_)
    refine am_istore_n (L' := [(4, .int v3), (2, va_rf v2), (0, va_rf (some a0))]) dX0_beat_111 rfl (Nat.le_of_ble_eq_true rfl) rfl ?_
    refine am_iconst (v := 0) dX0_beat_112 (by decide) ?_
    refine am_istore_n (L' := [(6, .int 0), (4, .int v3), (2, va_rf v2), (0, va_rf (some a0))]) dX0_beat_113 rfl (Nat.le_of_ble_eq_true rfl) rfl ?_
    exact am_lss h rfl
  · have h := h.2 c
    refine am_aloadr_n (x := some a0) dX0_beat_50 rfl rfl ?_
    refine fx_gr (k := 5) (f_fldC (ref := "PondHouse") inf_X0 (by decide) q1242 (Or.inl rfl) f_fld0) dX0_beat_51 h (fun v4 h => ?_)
    refine am_iload_n (x := x1) dX0_beat_54 rfl rfl ?_
    refine fx_ar (τ := 12) rfl rfl dX0_beat_55 h (fun v5 h => ?_)
    refine fx_gr (k := 1) (f_fldC (ref := "PondHouse$Creature") inf_X34 (by decide) q2253 (Or.inl rfl) f_fld0) dX0_beat_56 h (fun v6 h => ?_)
    refine am_ifnullr (tgt := 98) dX0_beat_59 (by decide) (fun c => ?_) (fun c => ?_)
    · have h := h.1 c
      refine am_iinc (x := x1) (v := (x1 + 1)) (L' := [(2, .int (x1 + 1)), (0, va_rf (some a0))]) dX0_beat_98 rfl rfl (Nat.le_of_ble_eq_true rfl) rfl ?_
      refine am_goto (tgt := 42) dX0_beat_101 (by decide) ?_
      exact am_lss h rfl
    · have h := h.2 c
      refine am_aloadr_n (x := some a0) dX0_beat_62 rfl rfl ?_
      refine fx_gr (k := 38) (f_fldC (ref := "PondHouse") inf_X0 (by decide) q1278 (Or.inl rfl) f_fld0) dX0_beat_63 h (fun v7 h => ?_)
      refine am_iload_n (x := x1) dX0_beat_66 rfl rfl ?_
      refine am_aloadr_n (x := some a0) dX0_beat_67 rfl rfl ?_
      refine fx_gi (k := 37) (f_fldC (ref := "PondHouse") inf_X0 (by decide) q1277 (Or.inl rfl) f_fld0) dX0_beat_68 h (fun v8 h => ?_)
      refine am_iconst (v := (-1)) dX0_beat_71 (by decide) ?_
      refine am_icmp_ne (tgt := 79) dX0_beat_72 (by decide) (fun c => ?_) (fun c => ?_)
      · have h := h.1 c
        refine am_aloadr_n (x := some a0) dX0_beat_79 rfl rfl ?_
        refine am_aloadr_n (x := some a0) dX0_beat_80 rfl rfl ?_
        refine fx_gr (k := 5) (f_fldC (ref := "PondHouse") inf_X0 (by decide) q1242 (Or.inl rfl) f_fld0) dX0_beat_81 h (fun v9 h => ?_)
        refine am_iload_n (x := x1) dX0_beat_84 rfl rfl ?_
        refine fx_ar (τ := 12) rfl rfl dX0_beat_85 h (fun v10 h => ?_)
        refine am_aloadr_n (x := some a0) dX0_beat_86 rfl rfl ?_
        refine fx_gi (k := 37) (f_fldC (ref := "PondHouse") inf_X0 (by decide) q1277 (Or.inl rfl) f_fld0) dX0_beat_87 h (fun v11 h => ?_)
        refine am_aloadr_n (x := some a0) dX0_beat_90 rfl rfl ?_
        refine fx_gi (k := 36) (f_fldC (ref := "PondHouse") inf_X0 (by decide) q1276 (Or.inl rfl) f_fld0) dX0_beat_91 h (fun v12 h => ?_)
        refine fx_callVX (Mc := m_X0_run) (as := [va_rf v10, .int v11, .int v12]) (cs := [0]) (r := (some a0)) (f_clsC inf_X0 qs6 f_cls0) bm_X0_run q389 q391 (Nat.le_of_ble_eq_true rfl) dX0_beat_94 h (fun b h => mt_X0_run (fx_k2i h (fun v13 σ14 h => ?_) (fun q σ' h => h.elim)))
        refine fx_si0 dX0_beat_97 h (fun σ17 h => ?_)
        refine am_iinc (x := x1) (v := (x1 + 1)) (L' := [(2, .int (x1 + 1)), (0, va_rf (some a0))]) dX0_beat_98 rfl rfl (Nat.le_of_ble_eq_true rfl) rfl ?_
        refine am_goto (tgt := 42) dX0_beat_101 (by decide) ?_
        exact am_lss h rfl
      · have h := h.2 c
        refine am_iconst (v := 2) dX0_beat_75 (by decide) ?_
        refine am_goto (tgt := 97) dX0_beat_76 (by decide) ?_
        refine fx_si0 dX0_beat_97 h (fun σ18 h => ?_)
        refine am_iinc (x := x1) (v := (x1 + 1)) (L' := [(2, .int (x1 + 1)), (0, va_rf (some a0))]) dX0_beat_98 rfl rfl (Nat.le_of_ble_eq_true rfl) rfl ?_
        refine am_goto (tgt := 42) dX0_beat_101 (by decide) ?_
        exact am_lss h rfl
theorem B_X0_beat_114_f {G : am_G} {d : Nat} {a0 : Nat} {x1 : Option Nat} {x2 : Int32} {x3 : Int32} {σ : am_S} {Q : Int32 → am_S → Prop} (h : ((x2 ≤ x3 → f_p σ (some a0) [0] 12 (.int 0) (fun σ1 => f_gr σ1 (some a0) [0] 27 (fun v2 => ((v2 = none → f_gi σ1 (some a0) [0] 36 (fun v3 => Q v3 σ1)) ∧ (¬ v2 = none → f_gr σ1 (some a0) [0] 27 (fun v4 => f_o σ1 (some a0) [0] (fun b => W_X0_quiet G d b v4 σ1 (fun σ6 => f_gi σ6 (some a0) [0] 36 (fun v9 => Q v9 σ6))))))))) ∧ (¬ x2 ≤ x3 → f_ar σ x1 15 x3 (fun v10 => ((v10 = none → B_X0_beat_114 G (d + 1) a0 x1 x2 (x3 + 1) σ Q) ∧ (¬ v10 = none → f_gi σ v10 [32] 5 (fun v11 => ((v11 = 0 → B_X0_beat_114 G (d + 1) a0 x1 x2 (x3 + 1) σ Q) ∧ (¬ v11 = 0 → f_o σ (some a0) [0] (fun b => W_X0_goesOn G d b v10 σ (fun σ13 => B_X0_beat_114 G (d + 1) a0 x1 x2 (x3 + 1) σ13 Q))))))))))) : B_X0_beat_114 G (d + 1) a0 x1 x2 x3 σ Q := by
  unfold B_X0_beat_114
  refine am_iload_n (x := x3) dX0_beat_114 rfl rfl ?_
  refine am_iload_n (x := x2) dX0_beat_115 rfl rfl ?_
  refine am_icmp_ge (tgt := 149) dX0_beat_116 (by decide) (fun c => ?_) (fun c => ?_)
  · have h := h.1 c
    refine am_aloadr_n (x := some a0) dX0_beat_149 rfl rfl ?_
    refine am_iconst (v := 0) dX0_beat_150 (by decide) ?_
    refine fx_p (k := 12) (v := .int 0) (f_putC inf_X0 (by decide) rfl rfl q1250 (Or.inl rfl) f_put0) dX0_beat_151 h (fun σ1 h => ?_)
    refine am_aloadr_n (x := some a0) dX0_beat_154 rfl rfl ?_
    refine fx_gr (k := 27) (f_fldC (ref := "PondHouse") inf_X0 (by decide) q1267 (Or.inl rfl) f_fld0) dX0_beat_155 h (fun v2 h => ?_)
    refine am_ifnullr (tgt := 169) dX0_beat_158 (by decide) (fun c => ?_) (fun c => ?_)
    · have h := h.1 c
      refine am_aloadr_n (x := some a0) dX0_beat_169 rfl rfl ?_
      refine fx_gi (k := 36) (f_fldC (ref := "PondHouse") inf_X0 (by decide) q1276 (Or.inl rfl) f_fld0) dX0_beat_170 h (fun v3 h => ?_)
      exact am_iret rfl dX0_beat_173 h
    · have h := h.2 c
      refine am_aloadr_n (x := some a0) dX0_beat_161 rfl rfl ?_
      refine am_aloadr_n (x := some a0) dX0_beat_162 rfl rfl ?_
      refine fx_gr (k := 27) (f_fldC (ref := "PondHouse") inf_X0 (by decide) q1267 (Or.inl rfl) f_fld0) dX0_beat_163 h (fun v4 h => ?_)
      refine fx_callVX (Mc := m_X0_quiet) (as := [va_rf v4]) (cs := [0]) (r := (some a0)) (f_clsC inf_X0 qs17 f_cls0) bm_X0_quiet q501 q503 (Nat.le_of_ble_eq_true rfl) dX0_beat_166 h (fun b h => mt_X0_quiet (fx_k2v h (fun σ6 h => ?_) (fun q σ' h => h.elim)))
      refine am_aloadr_n (x := some a0) dX0_beat_169 rfl rfl ?_
      refine fx_gi (k := 36) (f_fldC (ref := "PondHouse") inf_X0 (by decide) q1276 (Or.inl rfl) f_fld0) dX0_beat_170 h (fun v9 h => ?_)
      exact am_iret rfl dX0_beat_173 h
  · have h := h.2 c
    refine am_aloadr_n (x := x1) dX0_beat_119 rfl rfl ?_
    refine am_iload_n (x := x3) dX0_beat_120 rfl rfl ?_
    refine fx_ar (τ := 15) rfl rfl dX0_beat_121 h (fun v10 h => ?_)
    refine am_astore (x := v10) (L' := [(8, va_rf v10), (0, va_rf (some a0)), (2, va_rf x1), (4, .int x2), (6, .int x3)]) dX0_beat_122 (Nat.le_of_ble_eq_true rfl) rfl ?_
    refine am_aloadr (x := v10) dX0_beat_124 rfl ?_
    refine am_ifnullr (tgt := 143) dX0_beat_126 (by decide) (fun c => ?_) (fun c => ?_)
    · have h := h.1 c
      refine am_iinc (x := x3) (v := (x3 + 1)) (L' := [(6, .int (x3 + 1)), (8, va_rf v10), (0, va_rf (some a0)), (2, va_rf x1), (4, .int x2)]) dX0_beat_143 rfl rfl (Nat.le_of_ble_eq_true rfl) rfl ?_
      refine am_goto (tgt := 114) dX0_beat_146 (by decide) ?_
      exact am_lss h rfl
    · have h := h.2 c
      refine am_aloadr (x := v10) dX0_beat_129 rfl ?_
      refine fx_gi (k := 5) (f_fldC (ref := "PondHouse$LongAct") inf_X35 (by decide) q349 (Or.inl rfl) f_fld0) dX0_beat_131 h (fun v11 h => ?_)
      refine am_if_eq (tgt := 143) dX0_beat_134 (by decide) (fun c => ?_) (fun c => ?_)
      · have h := h.1 c
        refine am_iinc (x := x3) (v := (x3 + 1)) (L' := [(6, .int (x3 + 1)), (8, va_rf v10), (0, va_rf (some a0)), (2, va_rf x1), (4, .int x2)]) dX0_beat_143 rfl rfl (Nat.le_of_ble_eq_true rfl) rfl ?_
        refine am_goto (tgt := 114) dX0_beat_146 (by decide) ?_
        exact am_lss h rfl
      · have h := h.2 c
        refine am_aloadr_n (x := some a0) dX0_beat_137 rfl rfl ?_
        refine am_aloadr (x := v10) dX0_beat_138 rfl ?_
        refine fx_callVX (Mc := m_X0_goesOn) (as := [va_rf v10]) (cs := [0]) (r := (some a0)) (f_clsC inf_X0 qs16 f_cls0) bm_X0_goesOn q493 q495 (Nat.le_of_ble_eq_true rfl) dX0_beat_140 h (fun b h => mt_X0_goesOn (fx_k2v h (fun σ13 h => ?_) (fun q σ' h => h.elim)))
        refine am_iinc (x := x3) (v := (x3 + 1)) (L' := [(6, .int (x3 + 1)), (8, va_rf v10), (0, va_rf (some a0)), (2, va_rf x1), (4, .int x2)]) dX0_beat_143 rfl rfl (Nat.le_of_ble_eq_true rfl) rfl ?_
        refine am_goto (tgt := 114) dX0_beat_146 (by decide) ?_
        exact am_lss h rfl
theorem W_X0_run_f {G : am_G} {d : Nat} {a0 : Nat} {a1 : Option Nat} {a2 : Int32} {a3 : Int32} {σ : am_S} {Q : Int32 → am_S → Prop} (h : f_o σ (some a0) [0] (fun b => W_X0_begins G d b σ (fun σ2 => f_gr σ2 a1 [31] 1 (fun v5 => f_o σ2 v5 [21] (fun b => W_X23_body G d b a2 σ2 (fun v6 σ7 => ((¬ v6 = none → f_o σ7 (some a0) [0] (fun b => W_X0_body G d b a1 v6 a3 σ7 (fun v10 σ11 => f_p σ11 (some a0) [0] 15 (.int v10) (fun σ14 => Q 0 σ14)) (fun q13 σ12 => f_o σ12 (some q13) [2] (fun _ => B_X0_run_35 G (d + 1) a0 (some q13) σ12 Q)))) ∧ (v6 = none → Q 2 σ7)))))))) : W_X0_run G (d + 1) a0 a1 a2 a3 σ Q := by
  unfold W_X0_run
  refine am_aloadr_n (x := some a0) dX0_run_0 rfl rfl ?_
  refine fx_callV (Mc := m_X0_begins) (as := []) (cs := [0]) (r := (some a0)) (f_clsC inf_X0 qs7 f_cls0) bm_X0_begins q394 q396 (Nat.le_of_ble_eq_true rfl) dX0_run_1 h (fun b h => mt_X0_begins (fx_k2v h (fun σ2 h => ?_) (fun q σ' h => h.elim)))
  refine am_aloadr_n (x := a1) dX0_run_4 rfl rfl ?_
  refine fx_gr (k := 1) (f_fldC (ref := "PondHouse$Creature") inf_X34 (by decide) q2253 (Or.inl rfl) f_fld0) dX0_run_5 h (fun v5 h => ?_)
  refine am_iload_n (x := a2) dX0_run_8 rfl rfl ?_
  refine fx_callV (Mc := m_X23_body) (as := [.int a2]) (cs := [21]) (r := v5) (f_clsC inf_X23 q293 f_cls0) bm_X23_body q291 q292 (Nat.le_of_ble_eq_true rfl) dX0_run_9 h (fun b h => mt_X23_body (fx_k2r h (fun v6 σ7 h => ?_) (fun q σ' h => h.elim)))
  refine am_astore (x := v6) (L' := [(8, va_rf v6), (0, va_rf (some a0)), (2, va_rf a1), (4, .int a2), (6, .int a3)]) dX0_run_12 (Nat.le_of_ble_eq_true rfl) rfl ?_
  refine am_aloadr (x := v6) dX0_run_14 rfl ?_
  refine am_ifnonnullr (tgt := 21) dX0_run_16 (by decide) (fun c => ?_) (fun c => ?_)
  · have h := h.1 c
    refine am_aloadr_n (x := some a0) dX0_run_21 rfl rfl ?_
    refine am_aloadr_n (x := some a0) dX0_run_22 rfl rfl ?_
    refine am_aloadr_n (x := a1) dX0_run_23 rfl rfl ?_
    refine am_aloadr (x := v6) dX0_run_24 rfl ?_
    refine am_iload_n (x := a3) dX0_run_26 rfl rfl ?_
    refine fx_callV (Mc := m_X0_body) (as := [va_rf a1, va_rf v6, .int a3]) (cs := [0]) (r := (some a0)) (f_clsC inf_X0 qs8 f_cls0) bm_X0_body q398 q400 (Nat.le_of_ble_eq_true rfl) dX0_run_27 h (fun b h => mt_X0_body (fx_k2i h (fun v10 σ11 h => ?_) (fun q σ' h => ?_)))
    · refine fx_p (k := 15) (v := .int v10) (f_putC inf_X0 (by decide) rfl rfl q1253 (Or.inl rfl) f_put0) dX0_run_30 h (fun σ14 h => ?_)
      refine am_iconst (v := 0) dX0_run_33 (by decide) ?_
      exact am_iret rfl dX0_run_34 h
    · refine fx_catch [] [] { startPc := 21, endPc := 34, handlerPc := 35, catchType := 56 } inf_X2 (by decide +kernel) (by decide +kernel) (by decide +kernel) (by decide) q393 (Or.inr rfl) h (fun h => ?_)
      exact am_lss h rfl
  · have h := h.2 c
    refine am_iconst (v := 2) dX0_run_19 (by decide) ?_
    exact am_iret rfl dX0_run_20 h
theorem B_X0_run_35_f {G : am_G} {d : Nat} {a0 : Nat} {s0 : Option Nat} {σ : am_S} {Q : Int32 → am_S → Prop} (h : f_o σ (some a0) [0] (fun b => W_X0_ended G d b s0 σ (fun v1 σ2 => Q v1 σ2))) : B_X0_run_35 G (d + 1) a0 s0 σ Q := by
  unfold B_X0_run_35
  refine am_astore (x := s0) (L' := [(10, va_rf s0), (0, va_rf (some a0))]) dX0_run_35 (Nat.le_of_ble_eq_true rfl) rfl ?_
  refine am_aloadr_n (x := some a0) dX0_run_37 rfl rfl ?_
  refine am_aloadr (x := s0) dX0_run_38 rfl ?_
  refine fx_callV (Mc := m_X0_ended) (as := [va_rf s0]) (cs := [0]) (r := (some a0)) (f_clsC inf_X0 qs15 f_cls0) bm_X0_ended q489 q491 (Nat.le_of_ble_eq_true rfl) dX0_run_40 h (fun b h => mt_X0_ended (fx_k2i h (fun v1 σ2 h => ?_) (fun q σ' h => h.elim)))
  exact am_iret rfl dX0_run_43 h
theorem W_X0_begins_f {G : am_G} {d : Nat} {a0 : Nat} {σ : am_S} {Q : am_S → Prop} (h : f_p σ (some a0) [0] 10 (.int 500) (fun σ1 => f_p σ1 (some a0) [0] 11 (.int 0) (fun σ2 => f_p σ2 (some a0) [0] 15 (.int 0) (fun σ3 => f_p σ3 (some a0) [0] 16 (.int 0) (fun σ4 => Q σ4))))) : W_X0_begins G d a0 σ Q := by
  unfold W_X0_begins
  refine am_aloadr_n (x := some a0) dX0_begins_0 rfl rfl ?_
  refine am_sipush (v := 500) dX0_begins_1 (by decide) ?_
  refine fx_p (k := 10) (v := .int 500) (f_putC inf_X0 (by decide) rfl rfl q1248 (Or.inl rfl) f_put0) dX0_begins_4 h (fun σ1 h => ?_)
  refine am_aloadr_n (x := some a0) dX0_begins_7 rfl rfl ?_
  refine am_iconst (v := 0) dX0_begins_8 (by decide) ?_
  refine fx_p (k := 11) (v := .int 0) (f_putC inf_X0 (by decide) rfl rfl q1249 (Or.inl rfl) f_put0) dX0_begins_9 h (fun σ2 h => ?_)
  refine am_aloadr_n (x := some a0) dX0_begins_12 rfl rfl ?_
  refine am_iconst (v := 0) dX0_begins_13 (by decide) ?_
  refine fx_p (k := 15) (v := .int 0) (f_putC inf_X0 (by decide) rfl rfl q1253 (Or.inl rfl) f_put0) dX0_begins_14 h (fun σ3 h => ?_)
  refine am_aloadr_n (x := some a0) dX0_begins_17 rfl rfl ?_
  refine am_iconst (v := 0) dX0_begins_18 (by decide) ?_
  refine fx_p (k := 16) (v := .int 0) (f_putC inf_X0 (by decide) rfl rfl q1254 (Or.inl rfl) f_put0) dX0_begins_19 h (fun σ4 h => ?_)
  exact am_vret rfl dX0_begins_22 h
theorem W_X0_body_f {G : am_G} {d : Nat} {a0 : Nat} {a1 : Option Nat} {a2 : Option Nat} {a3 : Int32} {σ : am_S} {Q : Int32 → am_S → Prop} {E : Nat → am_S → Prop} (h : f_o σ (some a0) [0] (fun b => W_X0_notes G d b a1 a2 σ (fun σ2 => f_gr σ2 (some a0) [0] 7 (fun v5 => f_gi σ2 (some a0) [0] 11 (fun v6 => f_ar σ2 v5 13 v6 (fun v7 => f_o σ2 v7 [1] (fun b => W_X1_begins G d b a1 a2 a3 σ2 (fun v8 σ9 => f_gr σ9 a2 [22] 2 (fun v12 => f_o σ9 v12 [10] (fun b => W_X10_does G d b v8 0 0 σ9 (fun v13 σ14 => f_gi σ14 v8 [1] 4 (fun v17 => Q v17 σ14)) E)))))))))) : W_X0_body G (d + 1) a0 a1 a2 a3 σ Q E := by
  unfold W_X0_body
  refine am_aloadr_n (x := some a0) dX0_body_0 rfl rfl ?_
  refine am_aloadr_n (x := a1) dX0_body_1 rfl rfl ?_
  refine am_aloadr_n (x := a2) dX0_body_2 rfl rfl ?_
  refine fx_callV (Mc := m_X0_notes) (as := [va_rf a1, va_rf a2]) (cs := [0]) (r := (some a0)) (f_clsC inf_X0 qs9 f_cls0) bm_X0_notes q402 q404 (Nat.le_of_ble_eq_true rfl) dX0_body_3 h (fun b h => mt_X0_notes (fx_k2v h (fun σ2 h => ?_) (fun q σ' h => h.elim)))
  refine am_aloadr_n (x := some a0) dX0_body_6 rfl rfl ?_
  refine fx_gr (k := 7) (f_fldC (ref := "PondHouse") inf_X0 (by decide) q1244 (Or.inl rfl) f_fld0) dX0_body_7 h (fun v5 h => ?_)
  refine am_aloadr_n (x := some a0) dX0_body_10 rfl rfl ?_
  refine fx_gi (k := 11) (f_fldC (ref := "PondHouse") inf_X0 (by decide) q1249 (Or.inl rfl) f_fld0) dX0_body_11 h (fun v6 h => ?_)
  refine fx_ar (τ := 13) rfl rfl dX0_body_14 h (fun v7 h => ?_)
  refine am_aloadr_n (x := a1) dX0_body_15 rfl rfl ?_
  refine am_aloadr_n (x := a2) dX0_body_16 rfl rfl ?_
  refine am_iload_n (x := a3) dX0_body_17 rfl rfl ?_
  refine fx_callV (Mc := m_X1_begins) (as := [va_rf a1, va_rf a2, .int a3]) (cs := [1]) (r := v7) (f_clsC inf_X1 q336 f_cls0) bm_X1_begins q334 q335 (Nat.le_of_ble_eq_true rfl) dX0_body_18 h (fun b h => mt_X1_begins (fx_k2r h (fun v8 σ9 h => ?_) (fun q σ' h => h.elim)))
  refine am_astore (x := v8) (L' := [(8, va_rf v8), (0, va_rf (some a0)), (2, va_rf a1), (4, va_rf a2), (6, .int a3)]) dX0_body_21 (Nat.le_of_ble_eq_true rfl) rfl ?_
  refine am_aloadr_n (x := a2) dX0_body_23 rfl rfl ?_
  refine fx_gr (k := 2) (f_fldC (ref := "PondHouse$Body") inf_X24 (by decide) q897 (Or.inl rfl) f_fld0) dX0_body_24 h (fun v12 h => ?_)
  refine am_aloadr (x := v8) dX0_body_27 rfl ?_
  refine am_iconst (v := 0) dX0_body_29 (by decide) ?_
  refine am_iconst (v := 0) dX0_body_30 (by decide) ?_
  refine fx_callV (Mc := m_X10_does) (as := [va_rf v8, .int 0, .int 0]) (cs := [10]) (r := v12) (f_clsC inf_X10 q408 f_cls0) bm_X10_does q406 q407 (Nat.le_of_ble_eq_true rfl) dX0_body_31 h (fun b h => mt_X10_does (fx_k2i h (fun v13 σ14 h => ?_) (fun q σ' h => am_xout (by decide +kernel) h)))
  refine am_pop dX0_body_34 rfl ?_
  refine am_aloadr (x := v8) dX0_body_35 rfl ?_
  refine fx_gi (k := 4) (f_fldC (ref := "PondHouse$Frame") inf_X1 (by decide) q322 (Or.inl rfl) f_fld0) dX0_body_37 h (fun v17 h => ?_)
  exact am_iret rfl dX0_body_40 h
theorem W_X0_notes_f {G : am_G} {d : Nat} {a0 : Nat} {a1 : Option Nat} {a2 : Option Nat} {σ : am_S} {Q : am_S → Prop} (h : f_gi σ (some a0) [0] 12 (fun v1 => ((v1 = 0 → Q σ) ∧ (¬ v1 = 0 → f_gi σ (some a0) [0] 14 (fun v2 => ((¬ v2 = 50 → f_gr σ (some a0) [0] 13 (fun v3 => f_gi σ (some a0) [0] 14 (fun v4 => f_gi σ a1 [31] 0 (fun v5 => f_si σ v3 0 (4 * v4) v5 (fun σ6 => f_gr σ6 (some a0) [0] 13 (fun v7 => f_gi σ6 (some a0) [0] 14 (fun v8 => f_gi σ6 a2 [22] 1 (fun v9 => f_si σ6 v7 0 ((4 * v8) + 1) v9 (fun σ10 => f_gr σ10 (some a0) [0] 13 (fun v11 => f_gi σ10 (some a0) [0] 14 (fun v12 => f_gr σ10 a2 [22] 0 (fun v13 => f_gi σ10 v13 [21] 0 (fun v14 => f_si σ10 v11 0 ((4 * v12) + 2) v14 (fun σ15 => f_gr σ15 (some a0) [0] 13 (fun v16 => f_gi σ15 (some a0) [0] 14 (fun v17 => f_gr σ15 a2 [22] 0 (fun v18 => f_gi σ15 v18 [21] 1 (fun v19 => f_si σ15 v16 0 ((4 * v17) + 3) v19 (fun σ20 => f_gi σ20 (some a0) [0] 14 (fun v21 => f_p σ20 (some a0) [0] 14 (.int (v21 + 1)) (fun σ22 => Q σ22))))))))))))))))))))) ∧ (v2 = 50 → Q σ))))))) : W_X0_notes G d a0 a1 a2 σ Q := by
  unfold W_X0_notes
  refine am_aloadr_n (x := some a0) dX0_notes_0 rfl rfl ?_
  refine fx_gi (k := 12) (f_fldC (ref := "PondHouse") inf_X0 (by decide) q1250 (Or.inl rfl) f_fld0) dX0_notes_1 h (fun v1 h => ?_)
  refine am_if_eq (tgt := 16) dX0_notes_4 (by decide) (fun c => ?_) (fun c => ?_)
  · have h := h.1 c
    exact am_vret rfl dX0_notes_16 h
  · have h := h.2 c
    refine am_aloadr_n (x := some a0) dX0_notes_7 rfl rfl ?_
    refine fx_gi (k := 14) (f_fldC (ref := "PondHouse") inf_X0 (by decide) q1252 (Or.inl rfl) f_fld0) dX0_notes_8 h (fun v2 h => ?_)
    refine am_bipush (v := 50) dX0_notes_11 (by decide) ?_
    refine am_icmp_ne (tgt := 17) dX0_notes_13 (by decide) (fun c => ?_) (fun c => ?_)
    · have h := h.1 c
      refine am_aloadr_n (x := some a0) dX0_notes_17 rfl rfl ?_
      refine fx_gr (k := 13) (f_fldC (ref := "PondHouse") inf_X0 (by decide) q1251 (Or.inl rfl) f_fld0) dX0_notes_18 h (fun v3 h => ?_)
      refine am_iconst (v := 4) dX0_notes_21 (by decide) ?_
      refine am_aloadr_n (x := some a0) dX0_notes_22 rfl rfl ?_
      refine fx_gi (k := 14) (f_fldC (ref := "PondHouse") inf_X0 (by decide) q1252 (Or.inl rfl) f_fld0) dX0_notes_23 h (fun v4 h => ?_)
      refine am_imul dX0_notes_26 ?_
      refine am_aloadr_n (x := a1) dX0_notes_27 rfl rfl ?_
      refine fx_gi (k := 0) (f_fldC (ref := "PondHouse$Creature") inf_X34 (by decide) q2250 (Or.inl rfl) f_fld0) dX0_notes_28 h (fun v5 h => ?_)
      refine fx_si0 dX0_notes_31 h (fun σ6 h => ?_)
      refine am_aloadr_n (x := some a0) dX0_notes_32 rfl rfl ?_
      refine fx_gr (k := 13) (f_fldC (ref := "PondHouse") inf_X0 (by decide) q1251 (Or.inl rfl) f_fld0) dX0_notes_33 h (fun v7 h => ?_)
      refine am_iconst (v := 4) dX0_notes_36 (by decide) ?_
      refine am_aloadr_n (x := some a0) dX0_notes_37 rfl rfl ?_
      refine fx_gi (k := 14) (f_fldC (ref := "PondHouse") inf_X0 (by decide) q1252 (Or.inl rfl) f_fld0) dX0_notes_38 h (fun v8 h => ?_)
      refine am_imul dX0_notes_41 ?_
      refine am_iconst (v := 1) dX0_notes_42 (by decide) ?_
      refine am_iadd dX0_notes_43 ?_
      refine am_aloadr_n (x := a2) dX0_notes_44 rfl rfl ?_
      refine fx_gi (k := 1) (f_fldC (ref := "PondHouse$Body") inf_X24 (by decide) q894 (Or.inl rfl) f_fld0) dX0_notes_45 h (fun v9 h => ?_)
      refine fx_si0 dX0_notes_48 h (fun σ10 h => ?_)
      refine am_aloadr_n (x := some a0) dX0_notes_49 rfl rfl ?_
      refine fx_gr (k := 13) (f_fldC (ref := "PondHouse") inf_X0 (by decide) q1251 (Or.inl rfl) f_fld0) dX0_notes_50 h (fun v11 h => ?_)
      refine am_iconst (v := 4) dX0_notes_53 (by decide) ?_
      refine am_aloadr_n (x := some a0) dX0_notes_54 rfl rfl ?_
      refine fx_gi (k := 14) (f_fldC (ref := "PondHouse") inf_X0 (by decide) q1252 (Or.inl rfl) f_fld0) dX0_notes_55 h (fun v12 h => ?_)
      refine am_imul dX0_notes_58 ?_
      refine am_iconst (v := 2) dX0_notes_59 (by decide) ?_
      refine am_iadd dX0_notes_60 ?_
      refine am_aloadr_n (x := a2) dX0_notes_61 rfl rfl ?_
      refine fx_gr (k := 0) (f_fldC (ref := "PondHouse$Body") inf_X24 (by decide) q889 (Or.inl rfl) f_fld0) dX0_notes_62 h (fun v13 h => ?_)
      refine fx_gi (k := 0) (f_fldC (ref := "PondHouse$Kind") inf_X23 (by decide) q907 (Or.inl rfl) f_fld0) dX0_notes_65 h (fun v14 h => ?_)
      refine fx_si0 dX0_notes_68 h (fun σ15 h => ?_)
      refine am_aloadr_n (x := some a0) dX0_notes_69 rfl rfl ?_
      refine fx_gr (k := 13) (f_fldC (ref := "PondHouse") inf_X0 (by decide) q1251 (Or.inl rfl) f_fld0) dX0_notes_70 h (fun v16 h => ?_)
      refine am_iconst (v := 4) dX0_notes_73 (by decide) ?_
      refine am_aloadr_n (x := some a0) dX0_notes_74 rfl rfl ?_
      refine fx_gi (k := 14) (f_fldC (ref := "PondHouse") inf_X0 (by decide) q1252 (Or.inl rfl) f_fld0) dX0_notes_75 h (fun v17 h => ?_)
      refine am_imul dX0_notes_78 ?_
      refine am_iconst (v := 3) dX0_notes_79 (by decide) ?_
      refine am_iadd dX0_notes_80 ?_
      refine am_aloadr_n (x := a2) dX0_notes_81 rfl rfl ?_
      refine fx_gr (k := 0) (f_fldC (ref := "PondHouse$Body") inf_X24 (by decide) q889 (Or.inl rfl) f_fld0) dX0_notes_82 h (fun v18 h => ?_)
      refine fx_gi (k := 1) (f_fldC (ref := "PondHouse$Kind") inf_X23 (by decide) q909 (Or.inl rfl) f_fld0) dX0_notes_85 h (fun v19 h => ?_)
      refine fx_si0 dX0_notes_88 h (fun σ20 h => ?_)
      refine am_aloadr_n (x := some a0) dX0_notes_89 rfl rfl ?_
      refine am_dup dX0_notes_90 (am_rf_cat _) ?_
      refine fx_gi (k := 14) (f_fldC (ref := "PondHouse") inf_X0 (by decide) q1252 (Or.inl rfl) f_fld0) dX0_notes_91 h (fun v21 h => ?_)
      refine am_iconst (v := 1) dX0_notes_94 (by decide) ?_
      refine am_iadd dX0_notes_95 ?_
      refine fx_p (k := 14) (v := .int (v21 + 1)) (f_putC inf_X0 (by decide) rfl rfl q1252 (Or.inl rfl) f_put0) dX0_notes_96 h (fun σ22 h => ?_)
      exact am_vret rfl dX0_notes_99 h
    · have h := h.2 c
      exact am_vret rfl dX0_notes_16 h
theorem W_X0_spends_f {G : am_G} {d : Nat} {a0 : Nat} {σ : am_S} {Q : am_S → Prop} {E : Nat → am_S → Prop} (h : f_gi σ (some a0) [0] 10 (fun v1 => ((¬ v1 = 0 → f_gi σ (some a0) [0] 10 (fun v2 => f_p σ (some a0) [0] 10 (.int (v2 - 1)) (fun σ3 => Q σ3))) ∧ (v1 = 0 → f_gr σ (some a0) [0] 9 (fun v4 => f_p σ v4 [2] 7 (.int 1) (fun σ5 => f_gr σ5 (some a0) [0] 9 (fun v6 => f_o σ5 v6 [2] (fun q => E q σ5)))))))) : W_X0_spends G d a0 σ Q E := by
  unfold W_X0_spends
  refine am_aloadr_n (x := some a0) dX0_spends_0 rfl rfl ?_
  refine fx_gi (k := 10) (f_fldC (ref := "PondHouse") inf_X0 (by decide) q1248 (Or.inl rfl) f_fld0) dX0_spends_1 h (fun v1 h => ?_)
  refine am_if_ne (tgt := 20) dX0_spends_4 (by decide) (fun c => ?_) (fun c => ?_)
  · have h := h.1 c
    refine am_aloadr_n (x := some a0) dX0_spends_20 rfl rfl ?_
    refine am_dup dX0_spends_21 (am_rf_cat _) ?_
    refine fx_gi (k := 10) (f_fldC (ref := "PondHouse") inf_X0 (by decide) q1248 (Or.inl rfl) f_fld0) dX0_spends_22 h (fun v2 h => ?_)
    refine am_iconst (v := 1) dX0_spends_25 (by decide) ?_
    refine am_isub dX0_spends_26 ?_
    refine fx_p (k := 10) (v := .int (v2 - 1)) (f_putC inf_X0 (by decide) rfl rfl q1248 (Or.inl rfl) f_put0) dX0_spends_27 h (fun σ3 h => ?_)
    exact am_vret rfl dX0_spends_30 h
  · have h := h.2 c
    refine am_aloadr_n (x := some a0) dX0_spends_7 rfl rfl ?_
    refine fx_gr (k := 9) (f_fldC (ref := "PondHouse") inf_X0 (by decide) q1247 (Or.inl rfl) f_fld0) dX0_spends_8 h (fun v4 h => ?_)
    refine am_iconst (v := 1) dX0_spends_11 (by decide) ?_
    refine fx_p (k := 7) (v := .int 1) (f_putC inf_X2 (by decide) rfl rfl q1133 (Or.inl rfl) f_put0) dX0_spends_12 h (fun σ5 h => ?_)
    refine am_aloadr_n (x := some a0) dX0_spends_15 rfl rfl ?_
    refine fx_gr (k := 9) (f_fldC (ref := "PondHouse") inf_X0 (by decide) q1247 (Or.inl rfl) f_fld0) dX0_spends_16 h (fun v6 h => ?_)
    exact fx_throw (cs := [2]) dX0_spends_19 h (fun q h => am_xout (by decide +kernel) h)
theorem W_X0_called_f {G : am_G} {d : Nat} {a0 : Nat} {a1 : Option Nat} {a2 : Option Nat} {a3 : Int32} {σ : am_S} {Q : Int32 → am_S → Prop} {E : Nat → am_S → Prop} (h : f_gi σ (some a0) [0] 11 (fun v1 => ((¬ v1 = 20 → f_gi σ (some a0) [0] 11 (fun v2 => f_p σ (some a0) [0] 11 (.int (v2 + 1)) (fun σ3 => f_o σ3 (some a0) [0] (fun b => W_X0_body G d b a1 a2 a3 σ3 (fun v4 σ5 => f_gi σ5 (some a0) [0] 11 (fun v8 => f_p σ5 (some a0) [0] 11 (.int (v8 - 1)) (fun σ9 => Q v4 σ9))) E)))) ∧ (v1 = 20 → f_o σ (some a0) [0] (fun b => W_X0_fails G d b 1005 σ (fun v10 σ11 => f_o σ11 v10 [2] (fun q => E q σ11))))))) : W_X0_called G (d + 1) a0 a1 a2 a3 σ Q E := by
  unfold W_X0_called
  refine am_aloadr_n (x := some a0) dX0_called_0 rfl rfl ?_
  refine fx_gi (k := 11) (f_fldC (ref := "PondHouse") inf_X0 (by decide) q1249 (Or.inl rfl) f_fld0) dX0_called_1 h (fun v1 h => ?_)
  refine am_bipush (v := 20) dX0_called_4 (by decide) ?_
  refine am_icmp_ne (tgt := 17) dX0_called_6 (by decide) (fun c => ?_) (fun c => ?_)
  · have h := h.1 c
    refine am_aloadr_n (x := some a0) dX0_called_17 rfl rfl ?_
    refine am_dup dX0_called_18 (am_rf_cat _) ?_
    refine fx_gi (k := 11) (f_fldC (ref := "PondHouse") inf_X0 (by decide) q1249 (Or.inl rfl) f_fld0) dX0_called_19 h (fun v2 h => ?_)
    refine am_iconst (v := 1) dX0_called_22 (by decide) ?_
    refine am_iadd dX0_called_23 ?_
    refine fx_p (k := 11) (v := .int (v2 + 1)) (f_putC inf_X0 (by decide) rfl rfl q1249 (Or.inl rfl) f_put0) dX0_called_24 h (fun σ3 h => ?_)
    refine am_aloadr_n (x := some a0) dX0_called_27 rfl rfl ?_
    refine am_aloadr_n (x := a1) dX0_called_28 rfl rfl ?_
    refine am_aloadr_n (x := a2) dX0_called_29 rfl rfl ?_
    refine am_iload_n (x := a3) dX0_called_30 rfl rfl ?_
    refine fx_callV (Mc := m_X0_body) (as := [va_rf a1, va_rf a2, .int a3]) (cs := [0]) (r := (some a0)) (f_clsC inf_X0 qs8 f_cls0) bm_X0_body q398 q400 (Nat.le_of_ble_eq_true rfl) dX0_called_31 h (fun b h => mt_X0_body (fx_k2i h (fun v4 σ5 h => ?_) (fun q σ' h => am_xout (by decide +kernel) h)))
    refine am_istore (L' := [(8, .int v4), (0, va_rf (some a0)), (2, va_rf a1), (4, va_rf a2), (6, .int a3)]) dX0_called_34 (Nat.le_of_ble_eq_true rfl) rfl ?_
    refine am_aloadr_n (x := some a0) dX0_called_36 rfl rfl ?_
    refine am_dup dX0_called_37 (am_rf_cat _) ?_
    refine fx_gi (k := 11) (f_fldC (ref := "PondHouse") inf_X0 (by decide) q1249 (Or.inl rfl) f_fld0) dX0_called_38 h (fun v8 h => ?_)
    refine am_iconst (v := 1) dX0_called_41 (by decide) ?_
    refine am_isub dX0_called_42 ?_
    refine fx_p (k := 11) (v := .int (v8 - 1)) (f_putC inf_X0 (by decide) rfl rfl q1249 (Or.inl rfl) f_put0) dX0_called_43 h (fun σ9 h => ?_)
    refine am_iload (x := v4) dX0_called_46 rfl ?_
    exact am_iret rfl dX0_called_48 h
  · have h := h.2 c
    refine am_aloadr_n (x := some a0) dX0_called_9 rfl rfl ?_
    refine am_sipush (v := 1005) dX0_called_10 (by decide) ?_
    refine fx_callV (Mc := m_X0_fails) (as := [.int 1005]) (cs := [0]) (r := (some a0)) (f_clsC inf_X0 qs12 f_cls0) bm_X0_fails q425 q427 (Nat.le_of_ble_eq_true rfl) dX0_called_13 h (fun b h => mt_X0_fails (fx_k2r h (fun v10 σ11 h => ?_) (fun q σ' h => h.elim)))
    exact fx_throw (cs := [2]) dX0_called_16 h (fun q h => am_xout (by decide +kernel) h)
theorem W_X0_fails_f {G : am_G} {d : Nat} {a0 : Nat} {a1 : Int32} {σ : am_S} {Q : Option Nat → am_S → Prop} (h : f_gr σ (some a0) [0] 9 (fun v1 => f_p σ v1 [2] 6 (.int a1) (fun σ2 => f_gr σ2 (some a0) [0] 9 (fun v3 => f_p σ2 v3 [2] 7 (.int 0) (fun σ4 => f_gr σ4 (some a0) [0] 9 (fun v5 => Q v5 σ4)))))) : W_X0_fails G d a0 a1 σ Q := by
  unfold W_X0_fails
  refine am_aloadr_n (x := some a0) dX0_fails_0 rfl rfl ?_
  refine fx_gr (k := 9) (f_fldC (ref := "PondHouse") inf_X0 (by decide) q1247 (Or.inl rfl) f_fld0) dX0_fails_1 h (fun v1 h => ?_)
  refine am_iload_n (x := a1) dX0_fails_4 rfl rfl ?_
  refine fx_p (k := 6) (v := .int a1) (f_putC inf_X2 (by decide) rfl rfl q1132 (Or.inl rfl) f_put0) dX0_fails_5 h (fun σ2 h => ?_)
  refine am_aloadr_n (x := some a0) dX0_fails_8 rfl rfl ?_
  refine fx_gr (k := 9) (f_fldC (ref := "PondHouse") inf_X0 (by decide) q1247 (Or.inl rfl) f_fld0) dX0_fails_9 h (fun v3 h => ?_)
  refine am_iconst (v := 0) dX0_fails_12 (by decide) ?_
  refine fx_p (k := 7) (v := .int 0) (f_putC inf_X2 (by decide) rfl rfl q1133 (Or.inl rfl) f_put0) dX0_fails_13 h (fun σ4 h => ?_)
  refine am_aloadr_n (x := some a0) dX0_fails_16 rfl rfl ?_
  refine fx_gr (k := 9) (f_fldC (ref := "PondHouse") inf_X0 (by decide) q1247 (Or.inl rfl) f_fld0) dX0_fails_17 h (fun v5 h => ?_)
  exact fx_aret rfl rfl dX0_fails_20 h
theorem W_X0_fixedOf_f {G : am_G} {d : Nat} {a0 : Nat} {a1 : Option Nat} {a2 : Int32} {σ : am_S} {Q : Option Nat → am_S → Prop} (h : B_X0_fixedOf_2 G (d + 1) a0 a2 a1 σ Q) : W_X0_fixedOf G (d + 1) a0 a1 a2 σ Q := by
  unfold W_X0_fixedOf
  refine am_aloadr_n (x := a1) dX0_fixedOf_0 rfl rfl ?_
  refine am_astore_n (x := a1) (L' := [(6, va_rf a1), (0, va_rf (some a0)), (2, va_rf a1), (4, .int a2)]) dX0_fixedOf_1 rfl (Nat.le_of_ble_eq_true rfl) rfl ?_
  exact am_lss h rfl
theorem B_X0_fixedOf_2_f {G : am_G} {d : Nat} {a0 : Nat} {x2 : Int32} {x3 : Option Nat} {σ : am_S} {Q : Option Nat → am_S → Prop} (h : ((x3 = none → Q none σ) ∧ (¬ x3 = none → f_gr σ (some a0) [0] 4 (fun v1 => f_gi σ x3 [21] 0 (fun v2 => W_X0_find_2 G d v1 v2 x2 σ (fun v3 σ4 => ((v3 = none → f_gr σ4 x3 [21] 2 (fun v7 => B_X0_fixedOf_2 G (d + 1) a0 x2 v7 σ4 Q)) ∧ (¬ v3 = none → Q v3 σ4)))))))) : B_X0_fixedOf_2 G (d + 1) a0 x2 x3 σ Q := by
  unfold B_X0_fixedOf_2
  refine am_aloadr_n (x := x3) dX0_fixedOf_2 rfl rfl ?_
  refine am_ifnullr (tgt := 36) dX0_fixedOf_3 (by decide) (fun c => ?_) (fun c => ?_)
  · have h := h.1 c
    refine am_null dX0_fixedOf_36 ?_
    exact fx_aret rfl rfl dX0_fixedOf_37 h
  · have h := h.2 c
    refine am_aloadr_n (x := some a0) dX0_fixedOf_6 rfl rfl ?_
    refine fx_gr (k := 4) (f_fldC (ref := "PondHouse") inf_X0 (by decide) q1241 (Or.inl rfl) f_fld0) dX0_fixedOf_7 h (fun v1 h => ?_)
    refine am_aloadr_n (x := x3) dX0_fixedOf_10 rfl rfl ?_
    refine fx_gi (k := 0) (f_fldC (ref := "PondHouse$Kind") inf_X23 (by decide) q907 (Or.inl rfl) f_fld0) dX0_fixedOf_11 h (fun v2 h => ?_)
    refine am_iload_n (x := x2) dX0_fixedOf_14 rfl rfl ?_
    refine fx_callS (Mc := m_X0_find_2) (as := [va_rf v1, .int v2, .int x2]) bm_X0_find_2 q278 q279 (Nat.le_of_ble_eq_true rfl) dX0_fixedOf_15 (mt_X0_find_2 (fx_k2r h (fun v3 σ4 h => ?_) (fun q σ' h => h.elim)))
    refine am_astore (x := v3) (L' := [(8, va_rf v3), (0, va_rf (some a0)), (4, .int x2), (6, va_rf x3)]) dX0_fixedOf_18 (Nat.le_of_ble_eq_true rfl) rfl ?_
    refine am_aloadr (x := v3) dX0_fixedOf_20 rfl ?_
    refine am_ifnullr (tgt := 28) dX0_fixedOf_22 (by decide) (fun c => ?_) (fun c => ?_)
    · have h := h.1 c
      refine am_aloadr_n (x := x3) dX0_fixedOf_28 rfl rfl ?_
      refine fx_gr (k := 2) (f_fldC (ref := "PondHouse$Kind") inf_X23 (by decide) q913 (Or.inl rfl) f_fld0) dX0_fixedOf_29 h (fun v7 h => ?_)
      refine am_astore_n (x := v7) (L' := [(6, va_rf v7), (8, va_rf v3), (0, va_rf (some a0)), (4, .int x2)]) dX0_fixedOf_32 rfl (Nat.le_of_ble_eq_true rfl) rfl ?_
      refine am_goto (tgt := 2) dX0_fixedOf_33 (by decide) ?_
      exact am_lss h rfl
    · have h := h.2 c
      refine am_aloadr (x := v3) dX0_fixedOf_25 rfl ?_
      exact fx_aret rfl rfl dX0_fixedOf_27 h
theorem W_X0_ended_f {G : am_G} {d : Nat} {a0 : Nat} {a1 : Option Nat} {σ : am_S} {Q : Int32 → am_S → Prop} (h : f_p σ (some a0) [0] 15 (.int 0) (fun σ1 => f_gi σ1 a1 [2] 7 (fun v2 => ((v2 = 0 → f_gi σ1 a1 [2] 6 (fun v3 => f_p σ1 (some a0) [0] 16 (.int v3) (fun σ4 => Q 1 σ4))) ∧ (¬ v2 = 0 → Q 4 σ1))))) : W_X0_ended G d a0 a1 σ Q := by
  unfold W_X0_ended
  refine am_aloadr_n (x := some a0) dX0_ended_0 rfl rfl ?_
  refine am_iconst (v := 0) dX0_ended_1 (by decide) ?_
  refine fx_p (k := 15) (v := .int 0) (f_putC inf_X0 (by decide) rfl rfl q1253 (Or.inl rfl) f_put0) dX0_ended_2 h (fun σ1 h => ?_)
  refine am_aloadr_n (x := a1) dX0_ended_5 rfl rfl ?_
  refine fx_gi (k := 7) (f_fldC (ref := "PondHouse$Failure") inf_X2 (by decide) q1133 (Or.inl rfl) f_fld0) dX0_ended_6 h (fun v2 h => ?_)
  refine am_if_eq (tgt := 14) dX0_ended_9 (by decide) (fun c => ?_) (fun c => ?_)
  · have h := h.1 c
    refine am_aloadr_n (x := some a0) dX0_ended_14 rfl rfl ?_
    refine am_aloadr_n (x := a1) dX0_ended_15 rfl rfl ?_
    refine fx_gi (k := 6) (f_fldC (ref := "PondHouse$Failure") inf_X2 (by decide) q1132 (Or.inl rfl) f_fld0) dX0_ended_16 h (fun v3 h => ?_)
    refine fx_p (k := 16) (v := .int v3) (f_putC inf_X0 (by decide) rfl rfl q1254 (Or.inl rfl) f_put0) dX0_ended_19 h (fun σ4 h => ?_)
    refine am_iconst (v := 1) dX0_ended_22 (by decide) ?_
    exact am_iret rfl dX0_ended_23 h
  · have h := h.2 c
    refine am_iconst (v := 4) dX0_ended_12 (by decide) ?_
    exact am_iret rfl dX0_ended_13 h
theorem W_X0_goesOn_f {G : am_G} {d : Nat} {a0 : Nat} {a1 : Option Nat} {σ : am_S} {Q : am_S → Prop} (h : f_o σ (some a0) [0] (fun b => W_X0_begins G d b σ (fun σ2 => f_gi σ2 a1 [32] 2 (fun v5 => f_p σ2 a1 [32] 2 (.int (v5 + 1)) (fun σ6 => f_gr σ6 a1 [32] 0 (fun v7 => f_gr σ6 v7 [1] 1 (fun v8 => f_gr σ6 v8 [22] 2 (fun v9 => f_gr σ6 a1 [32] 0 (fun v10 => f_gi σ6 a1 [32] 1 (fun v11 => f_o σ6 v9 [10] (fun b => W_X10_does G d b v10 v11 1 σ6 (fun v12 σ13 => f_gi σ13 a1 [32] 1 (fun v16 => ((v12 ≤ v16 → B_X0_goesOn_60 G (d + 1) a0 a1 v12 0 σ13 Q) ∧ (¬ v12 ≤ v16 → f_o σ13 v9 [10] (fun b => W_X10_isBehindRest G d b v12 σ13 (fun v17 σ18 => ((v17 = 0 → B_X0_goesOn_60 G (d + 1) a0 a1 v12 0 σ18 Q) ∧ (¬ v17 = 0 → B_X0_goesOn_60 G (d + 1) a0 a1 v12 1 σ18 Q)))))))) (fun q15 σ14 => f_o σ14 (some q15) [2] (fun _ => B_X0_goesOn_87 G (d + 1) a0 a1 (some q15) σ14 Q))))))))))))) : W_X0_goesOn G (d + 1) a0 a1 σ Q := by
  unfold W_X0_goesOn
  refine am_aloadr_n (x := some a0) dX0_goesOn_0 rfl rfl ?_
  refine fx_callV (Mc := m_X0_begins) (as := []) (cs := [0]) (r := (some a0)) (f_clsC inf_X0 qs7 f_cls0) bm_X0_begins q394 q396 (Nat.le_of_ble_eq_true rfl) dX0_goesOn_1 h (fun b h => mt_X0_begins (fx_k2v h (fun σ2 h => ?_) (fun q σ' h => h.elim)))
  refine am_aloadr_n (x := a1) dX0_goesOn_4 rfl rfl ?_
  refine am_dup dX0_goesOn_5 (am_rf_cat _) ?_
  refine fx_gi (k := 2) (f_fldC (ref := "PondHouse$LongAct") inf_X35 (by decide) q345 (Or.inl rfl) f_fld0) dX0_goesOn_6 h (fun v5 h => ?_)
  refine am_iconst (v := 1) dX0_goesOn_9 (by decide) ?_
  refine am_iadd dX0_goesOn_10 ?_
  refine fx_p (k := 2) (v := .int (v5 + 1)) (f_putC inf_X35 (by decide) rfl rfl q345 (Or.inl rfl) f_put0) dX0_goesOn_11 h (fun σ6 h => ?_)
  refine am_aloadr_n (x := a1) dX0_goesOn_14 rfl rfl ?_
  refine fx_gr (k := 0) (f_fldC (ref := "PondHouse$LongAct") inf_X35 (by decide) q343 (Or.inl rfl) f_fld0) dX0_goesOn_15 h (fun v7 h => ?_)
  refine fx_gr (k := 1) (f_fldC (ref := "PondHouse$Frame") inf_X1 (by decide) q313 (Or.inl rfl) f_fld0) dX0_goesOn_18 h (fun v8 h => ?_)
  refine fx_gr (k := 2) (f_fldC (ref := "PondHouse$Body") inf_X24 (by decide) q897 (Or.inl rfl) f_fld0) dX0_goesOn_21 h (fun v9 h => ?_)
  refine am_astore_n (x := v9) (L' := [(4, va_rf v9), (0, va_rf (some a0)), (2, va_rf a1)]) dX0_goesOn_24 rfl (Nat.le_of_ble_eq_true rfl) rfl ?_
  refine am_aloadr_n (x := v9) dX0_goesOn_25 rfl rfl ?_
  refine am_aloadr_n (x := a1) dX0_goesOn_26 rfl rfl ?_
  refine fx_gr (k := 0) (f_fldC (ref := "PondHouse$LongAct") inf_X35 (by decide) q343 (Or.inl rfl) f_fld0) dX0_goesOn_27 h (fun v10 h => ?_)
  refine am_aloadr_n (x := a1) dX0_goesOn_30 rfl rfl ?_
  refine fx_gi (k := 1) (f_fldC (ref := "PondHouse$LongAct") inf_X35 (by decide) q344 (Or.inl rfl) f_fld0) dX0_goesOn_31 h (fun v11 h => ?_)
  refine am_iconst (v := 1) dX0_goesOn_34 (by decide) ?_
  refine fx_callV (Mc := m_X10_does) (as := [va_rf v10, .int v11, .int 1]) (cs := [10]) (r := v9) (f_clsC inf_X10 q408 f_cls0) bm_X10_does q406 q407 (Nat.le_of_ble_eq_true rfl) dX0_goesOn_35 h (fun b h => mt_X10_does (fx_k2i h (fun v12 σ13 h => ?_) (fun q σ' h => ?_)))
  · refine am_istore_n (L' := [(6, .int v12), (4, va_rf v9), (0, va_rf (some a0)), (2, va_rf a1)]) dX0_goesOn_38 rfl (Nat.le_of_ble_eq_true rfl) rfl ?_
    refine am_iload_n (x := v12) dX0_goesOn_39 rfl rfl ?_
    refine am_aloadr_n (x := a1) dX0_goesOn_40 rfl rfl ?_
    refine fx_gi (k := 1) (f_fldC (ref := "PondHouse$LongAct") inf_X35 (by decide) q344 (Or.inl rfl) f_fld0) dX0_goesOn_41 h (fun v16 h => ?_)
    refine am_icmp_le (tgt := 59) dX0_goesOn_44 (by decide) (fun c => ?_) (fun c => ?_)
    · have h := h.1 c
      refine am_iconst (v := 0) dX0_goesOn_59 (by decide) ?_
      exact am_lss h rfl
    · have h := h.2 c
      refine am_aloadr_n (x := v9) dX0_goesOn_47 rfl rfl ?_
      refine am_iload_n (x := v12) dX0_goesOn_48 rfl rfl ?_
      refine fx_callV (Mc := m_X10_isBehindRest) (as := [.int v12]) (cs := [10]) (r := v9) (f_clsC inf_X10 q499 f_cls0) bm_X10_isBehindRest q497 q498 (Nat.le_of_ble_eq_true rfl) dX0_goesOn_49 h (fun b h => mt_X10_isBehindRest (fx_k2i h (fun v17 σ18 h => ?_) (fun q σ' h => h.elim)))
      refine am_if_eq (tgt := 59) dX0_goesOn_52 (by decide) (fun c => ?_) (fun c => ?_)
      · have h := h.1 c
        refine am_iconst (v := 0) dX0_goesOn_59 (by decide) ?_
        exact am_lss h rfl
      · have h := h.2 c
        refine am_iconst (v := 1) dX0_goesOn_55 (by decide) ?_
        refine am_goto (tgt := 60) dX0_goesOn_56 (by decide) ?_
        exact am_lss h rfl
  · refine fx_catch [] [{ startPc := 73, endPc := 84, handlerPc := 87, catchType := 56 }] { startPc := 25, endPc := 72, handlerPc := 87, catchType := 56 } inf_X2 (by decide +kernel) (by decide +kernel) (by decide +kernel) (by decide) q393 (Or.inr rfl) h (fun h => ?_)
    exact am_lss h rfl
