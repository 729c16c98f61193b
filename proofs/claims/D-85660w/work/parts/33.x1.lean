set_option maxRecDepth 100000
/-! ===== PondHouse: what its blocks do (printed by tools/gx.py) ===== -/
theorem B_X0_goesOn_60_f {G : am_G} {d : Nat} {a0 : Nat} {x1 : Option Nat} {x3 : Int32} {s0 : Int32} {σ : am_S} {Q : am_S → Prop} (h : f_p σ x1 [32] 1 (.int x3) (fun σ1 => ((s0 = 0 → f_gr σ1 x1 [32] 0 (fun v2 => f_gi σ1 v2 [1] 4 (fun v3 => f_p σ1 x1 [32] 4 (.int v3) (fun σ4 => f_p σ4 x1 [32] 5 (.int 0) (fun σ5 => Q σ5))))) ∧ (¬ s0 = 0 → Q σ1)))) : B_X0_goesOn_60 G (d + 1) a0 x1 x3 s0 σ Q := by
  unfold B_X0_goesOn_60
  refine am_istore (L' := [(8, .int s0), (0, va_rf (some a0)), (2, va_rf x1), (6, .int x3)]) dX0_goesOn_60 (Nat.le_of_ble_eq_true rfl) rfl ?_
  refine am_aloadr_n (x := x1) dX0_goesOn_62 rfl rfl ?_
  refine am_iload_n (x := x3) dX0_goesOn_63 rfl rfl ?_
  refine fx_p (k := 1) (v := .int x3) (f_putC inf_X35 (by decide) rfl rfl q344 (Or.inl rfl) f_put0) dX0_goesOn_64 h (fun σ1 h => ?_)
  refine am_iload (x := s0) dX0_goesOn_67 rfl ?_
  refine am_if_eq (tgt := 73) dX0_goesOn_69 (by decide) (fun c => ?_) (fun c => ?_)
  · have h := h.1 c
    refine am_aloadr_n (x := x1) dX0_goesOn_73 rfl rfl ?_
    refine am_aloadr_n (x := x1) dX0_goesOn_74 rfl rfl ?_
    refine fx_gr (k := 0) (f_fldC (ref := "PondHouse$LongAct") inf_X35 (by decide) q343 (Or.inl rfl) f_fld0) dX0_goesOn_75 h (fun v2 h => ?_)
    refine fx_gi (k := 4) (f_fldC (ref := "PondHouse$Frame") inf_X1 (by decide) q322 (Or.inl rfl) f_fld0) dX0_goesOn_78 h (fun v3 h => ?_)
    refine fx_p (k := 4) (v := .int v3) (f_putC inf_X35 (by decide) rfl rfl q347 (Or.inl rfl) f_put0) dX0_goesOn_81 h (fun σ4 h => ?_)
    refine am_goto (tgt := 97) dX0_goesOn_84 (by decide) ?_
    refine am_aloadr_n (x := x1) dX0_goesOn_97 rfl rfl ?_
    refine am_iconst (v := 0) dX0_goesOn_98 (by decide) ?_
    refine fx_p (k := 5) (v := .int 0) (f_putC inf_X35 (by decide) rfl rfl q349 (Or.inl rfl) f_put0) dX0_goesOn_99 h (fun σ5 h => ?_)
    exact am_vret rfl dX0_goesOn_102 h
  · have h := h.2 c
    exact am_vret rfl dX0_goesOn_72 h
theorem B_X0_goesOn_87_f {G : am_G} {d : Nat} {a0 : Nat} {x1 : Option Nat} {s0 : Option Nat} {σ : am_S} {Q : am_S → Prop} (h : f_o σ (some a0) [0] (fun b => W_X0_ended G d b s0 σ (fun v1 σ2 => f_p σ2 x1 [32] 3 (.int v1) (fun σ5 => f_p σ5 x1 [32] 5 (.int 0) (fun σ6 => Q σ6))))) : B_X0_goesOn_87 G (d + 1) a0 x1 s0 σ Q := by
  unfold B_X0_goesOn_87
  refine am_astore_n (x := s0) (L' := [(6, va_rf s0), (0, va_rf (some a0)), (2, va_rf x1)]) dX0_goesOn_87 rfl (Nat.le_of_ble_eq_true rfl) rfl ?_
  refine am_aloadr_n (x := x1) dX0_goesOn_88 rfl rfl ?_
  refine am_aloadr_n (x := some a0) dX0_goesOn_89 rfl rfl ?_
  refine am_aloadr_n (x := s0) dX0_goesOn_90 rfl rfl ?_
  refine fx_callV (Mc := m_X0_ended) (as := [va_rf s0]) (cs := [0]) (r := (some a0)) (f_clsC inf_X0 qs15 f_cls0) bm_X0_ended q489 q491 (Nat.le_of_ble_eq_true rfl) dX0_goesOn_91 h (fun b h => mt_X0_ended (fx_k2i h (fun v1 σ2 h => ?_) (fun q σ' h => h.elim)))
  refine fx_p (k := 3) (v := .int v1) (f_putC inf_X35 (by decide) rfl rfl q346 (Or.inl rfl) f_put0) dX0_goesOn_94 h (fun σ5 h => ?_)
  refine am_aloadr_n (x := x1) dX0_goesOn_97 rfl rfl ?_
  refine am_iconst (v := 0) dX0_goesOn_98 (by decide) ?_
  refine fx_p (k := 5) (v := .int 0) (f_putC inf_X35 (by decide) rfl rfl q349 (Or.inl rfl) f_put0) dX0_goesOn_99 h (fun σ6 h => ?_)
  exact am_vret rfl dX0_goesOn_102 h
theorem W_X0_quiet_f {G : am_G} {d : Nat} {a0 : Nat} {a1 : Option Nat} {σ : am_S} {Q : am_S → Prop} (h : f_o σ (some a0) [0] (fun b => W_X0_isForbidden G d b σ (fun v1 σ2 => ((v1 = 0 → f_p σ2 (some a0) [0] 27 (va_rf none) (fun σ5 => f_o σ5 (some a0) [0] (fun b => W_X0_makes G d b a1 σ5 (fun σ7 => f_p σ7 a1 [24] 1 (.int 2) (fun σ10 => Q σ10)) (fun q9 σ8 => f_o σ8 (some q9) [5] (fun _ => B_X0_quiet_56 G (d + 1) a0 a1 (some q9) σ8 Q))))) ∧ (¬ v1 = 0 → f_gi σ2 a1 [24] 2 (fun v11 => f_p σ2 a1 [24] 2 (.int (v11 + 1)) (fun σ12 => f_gi σ12 a1 [24] 2 (fun v13 => ((8 ≤ v13 → f_p σ12 a1 [24] 1 (.int 3) (fun σ14 => f_p σ14 (some a0) [0] 27 (va_rf none) (fun σ15 => Q σ15))) ∧ (¬ 8 ≤ v13 → Q σ12)))))))))) : W_X0_quiet G (d + 1) a0 a1 σ Q := by
  unfold W_X0_quiet
  refine am_aloadr_n (x := some a0) dX0_quiet_0 rfl rfl ?_
  refine fx_callV (Mc := m_X0_isForbidden) (as := []) (cs := [0]) (r := (some a0)) (f_clsC inf_X0 qs18 f_cls0) bm_X0_isForbidden q506 q508 (Nat.le_of_ble_eq_true rfl) dX0_quiet_1 h (fun b h => mt_X0_isForbidden (fx_k2i h (fun v1 σ2 h => ?_) (fun q σ' h => h.elim)))
  refine am_if_eq (tgt := 38) dX0_quiet_4 (by decide) (fun c => ?_) (fun c => ?_)
  · have h := h.1 c
    refine am_aloadr_n (x := some a0) dX0_quiet_38 rfl rfl ?_
    refine am_null dX0_quiet_39 ?_
    refine fx_p (k := 27) (v := va_rf none) (f_putC inf_X0 (by decide) (f_nrf _ _) (f_frf _ _) q1267 (Or.inl rfl) f_put0) dX0_quiet_40 h (fun σ5 h => ?_)
    refine am_aloadr_n (x := some a0) dX0_quiet_43 rfl rfl ?_
    refine am_aloadr_n (x := a1) dX0_quiet_44 rfl rfl ?_
    refine fx_callVX (Mc := m_X0_makes) (as := [va_rf a1]) (cs := [0]) (r := (some a0)) (f_clsC inf_X0 qs19 f_cls0) bm_X0_makes q510 q512 (Nat.le_of_ble_eq_true rfl) dX0_quiet_45 h (fun b h => mt_X0_makes (fx_k2v h (fun σ7 h => ?_) (fun q σ' h => ?_)))
    · refine am_aloadr_n (x := a1) dX0_quiet_48 rfl rfl ?_
      refine am_iconst (v := 2) dX0_quiet_49 (by decide) ?_
      refine fx_p (k := 1) (v := .int 2) (f_putC inf_X26 (by decide) rfl rfl q2217 (Or.inl rfl) f_put0) dX0_quiet_50 h (fun σ10 h => ?_)
      refine am_goto (tgt := 86) dX0_quiet_53 (by decide) ?_
      exact am_vret rfl dX0_quiet_86 h
    · refine fx_catch [] [] { startPc := 43, endPc := 53, handlerPc := 56, catchType := 165 } inf_X5 (by decide +kernel) (by decide +kernel) (by decide +kernel) (by decide) q505 (Or.inr rfl) h (fun h => ?_)
      exact am_lss h rfl
  · have h := h.2 c
    refine am_aloadr_n (x := a1) dX0_quiet_7 rfl rfl ?_
    refine am_dup dX0_quiet_8 (am_rf_cat _) ?_
    refine fx_gi (k := 2) (f_fldC (ref := "PondHouse$Patch") inf_X26 (by decide) q2218 (Or.inl rfl) f_fld0) dX0_quiet_9 h (fun v11 h => ?_)
    refine am_iconst (v := 1) dX0_quiet_12 (by decide) ?_
    refine am_iadd dX0_quiet_13 ?_
    refine fx_p (k := 2) (v := .int (v11 + 1)) (f_putC inf_X26 (by decide) rfl rfl q2218 (Or.inl rfl) f_put0) dX0_quiet_14 h (fun σ12 h => ?_)
    refine am_aloadr_n (x := a1) dX0_quiet_17 rfl rfl ?_
    refine fx_gi (k := 2) (f_fldC (ref := "PondHouse$Patch") inf_X26 (by decide) q2218 (Or.inl rfl) f_fld0) dX0_quiet_18 h (fun v13 h => ?_)
    refine am_bipush (v := 8) dX0_quiet_21 (by decide) ?_
    refine am_icmp_ge (tgt := 27) dX0_quiet_23 (by decide) (fun c => ?_) (fun c => ?_)
    · have h := h.1 c
      refine am_aloadr_n (x := a1) dX0_quiet_27 rfl rfl ?_
      refine am_iconst (v := 3) dX0_quiet_28 (by decide) ?_
      refine fx_p (k := 1) (v := .int 3) (f_putC inf_X26 (by decide) rfl rfl q2217 (Or.inl rfl) f_put0) dX0_quiet_29 h (fun σ14 h => ?_)
      refine am_aloadr_n (x := some a0) dX0_quiet_32 rfl rfl ?_
      refine am_null dX0_quiet_33 ?_
      refine fx_p (k := 27) (v := va_rf none) (f_putC inf_X0 (by decide) (f_nrf _ _) (f_frf _ _) q1267 (Or.inl rfl) f_put0) dX0_quiet_34 h (fun σ15 h => ?_)
      exact am_vret rfl dX0_quiet_37 h
    · have h := h.2 c
      exact am_vret rfl dX0_quiet_26 h
theorem B_X0_quiet_56_f {G : am_G} {d : Nat} {a0 : Nat} {x1 : Option Nat} {s0 : Option Nat} {σ : am_S} {Q : am_S → Prop} (h : f_p σ x1 [24] 1 (.int 4) (fun σ1 => f_gi σ1 s0 [5] 6 (fun v2 => f_p σ1 (some a0) [0] 39 (.int v2) (fun σ3 => f_gi σ3 s0 [5] 7 (fun v4 => f_p σ3 (some a0) [0] 40 (.int v4) (fun σ5 => f_gi σ5 s0 [5] 8 (fun v6 => f_p σ5 (some a0) [0] 41 (.int v6) (fun σ7 => Q σ7)))))))) : B_X0_quiet_56 G (d + 1) a0 x1 s0 σ Q := by
  unfold B_X0_quiet_56
  refine am_astore_n (x := s0) (L' := [(4, va_rf s0), (0, va_rf (some a0)), (2, va_rf x1)]) dX0_quiet_56 rfl (Nat.le_of_ble_eq_true rfl) rfl ?_
  refine am_aloadr_n (x := x1) dX0_quiet_57 rfl rfl ?_
  refine am_iconst (v := 4) dX0_quiet_58 (by decide) ?_
  refine fx_p (k := 1) (v := .int 4) (f_putC inf_X26 (by decide) rfl rfl q2217 (Or.inl rfl) f_put0) dX0_quiet_59 h (fun σ1 h => ?_)
  refine am_aloadr_n (x := some a0) dX0_quiet_62 rfl rfl ?_
  refine am_aloadr_n (x := s0) dX0_quiet_63 rfl rfl ?_
  refine fx_gi (k := 6) (f_fldC (ref := "PondHouse$Refusal") inf_X5 (by decide) q1217 (Or.inl rfl) f_fld0) dX0_quiet_64 h (fun v2 h => ?_)
  refine fx_p (k := 39) (v := .int v2) (f_putC inf_X0 (by decide) rfl rfl q1279 (Or.inl rfl) f_put0) dX0_quiet_67 h (fun σ3 h => ?_)
  refine am_aloadr_n (x := some a0) dX0_quiet_70 rfl rfl ?_
  refine am_aloadr_n (x := s0) dX0_quiet_71 rfl rfl ?_
  refine fx_gi (k := 7) (f_fldC (ref := "PondHouse$Refusal") inf_X5 (by decide) q1218 (Or.inl rfl) f_fld0) dX0_quiet_72 h (fun v4 h => ?_)
  refine fx_p (k := 40) (v := .int v4) (f_putC inf_X0 (by decide) rfl rfl q1280 (Or.inl rfl) f_put0) dX0_quiet_75 h (fun σ5 h => ?_)
  refine am_aloadr_n (x := some a0) dX0_quiet_78 rfl rfl ?_
  refine am_aloadr_n (x := s0) dX0_quiet_79 rfl rfl ?_
  refine fx_gi (k := 8) (f_fldC (ref := "PondHouse$Refusal") inf_X5 (by decide) q1219 (Or.inl rfl) f_fld0) dX0_quiet_80 h (fun v6 h => ?_)
  refine fx_p (k := 41) (v := .int v6) (f_putC inf_X0 (by decide) rfl rfl q1281 (Or.inl rfl) f_put0) dX0_quiet_83 h (fun σ7 h => ?_)
  exact am_vret rfl dX0_quiet_86 h
theorem W_X0_isForbidden_f {G : am_G} {d : Nat} {a0 : Nat} {σ : am_S} {Q : Int32 → am_S → Prop} (h : f_gr σ (some a0) [0] 35 (fun v1 => f_al σ v1 15 (fun v2 => B_X0_isForbidden_10 G d a0 v1 v2 0 σ Q))) : W_X0_isForbidden G d a0 σ Q := by
  unfold W_X0_isForbidden
  refine am_aloadr_n (x := some a0) dX0_isForbidden_0 rfl rfl ?_
  refine fx_gr (k := 35) (f_fldC (ref := "PondHouse") inf_X0 (by decide) q1275 (Or.inl rfl) f_fld0) dX0_isForbidden_1 h (fun v1 h => ?_)
  refine am_astore_n (x := v1) (L' := [(2, va_rf v1), (0, va_rf (some a0))]) dX0_isForbidden_4 rfl (Nat.le_of_ble_eq_true rfl) rfl ?_
  refine am_aloadr_n (x := v1) dX0_isForbidden_5 rfl rfl ?_
  refine fx_al (τ := 15) rfl dX0_isForbidden_6 h (fun v2 h => ?_)
  refine am_istore_n (L' := [(4, .int v2), (2, va_rf v1), (0, va_rf (some a0))]) dX0_isForbidden_7 rfl (Nat.le_of_ble_eq_true rfl) rfl ?_
  refine am_iconst (v := 0) dX0_isForbidden_8 (by decide) ?_
  refine am_istore_n (L' := [(6, .int 0), (4, .int v2), (2, va_rf v1), (0, va_rf (some a0))]) dX0_isForbidden_9 rfl (Nat.le_of_ble_eq_true rfl) rfl ?_
  exact am_lss h rfl
theorem B_X0_isForbidden_10_f {G : am_G} {d : Nat} {a0 : Nat} {x1 : Option Nat} {x2 : Int32} {x3 : Int32} {σ : am_S} {Q : Int32 → am_S → Prop} (h : ((x2 ≤ x3 → Q 0 σ) ∧ (¬ x2 ≤ x3 → f_ar σ x1 15 x3 (fun v1 => ((v1 = none → B_X0_isForbidden_10 G d a0 x1 x2 (x3 + 1) σ Q) ∧ (¬ v1 = none → f_gi σ v1 [32] 5 (fun v2 => ((v2 = 0 → B_X0_isForbidden_10 G d a0 x1 x2 (x3 + 1) σ Q) ∧ (¬ v2 = 0 → f_gi σ v1 [32] 6 (fun v3 => ((v3 = 0 → B_X0_isForbidden_10 G d a0 x1 x2 (x3 + 1) σ Q) ∧ (¬ v3 = 0 → Q 1 σ)))))))))))) : B_X0_isForbidden_10 G d a0 x1 x2 x3 σ Q := by
  unfold B_X0_isForbidden_10
  refine am_iload_n (x := x3) dX0_isForbidden_10 rfl rfl ?_
  refine am_iload_n (x := x2) dX0_isForbidden_11 rfl rfl ?_
  refine am_icmp_ge (tgt := 49) dX0_isForbidden_12 (by decide) (fun c => ?_) (fun c => ?_)
  · have h := h.1 c
    refine am_iconst (v := 0) dX0_isForbidden_49 (by decide) ?_
    exact am_zret rfl rfl dX0_isForbidden_50 h
  · have h := h.2 c
    refine am_aloadr_n (x := x1) dX0_isForbidden_15 rfl rfl ?_
    refine am_iload_n (x := x3) dX0_isForbidden_16 rfl rfl ?_
    refine fx_ar (τ := 15) rfl rfl dX0_isForbidden_17 h (fun v1 h => ?_)
    refine am_astore (x := v1) (L' := [(8, va_rf v1), (2, va_rf x1), (4, .int x2), (6, .int x3)]) dX0_isForbidden_18 (Nat.le_of_ble_eq_true rfl) rfl ?_
    refine am_aloadr (x := v1) dX0_isForbidden_20 rfl ?_
    refine am_ifnullr (tgt := 43) dX0_isForbidden_22 (by decide) (fun c => ?_) (fun c => ?_)
    · have h := h.1 c
      refine am_iinc (x := x3) (v := (x3 + 1)) (L' := [(6, .int (x3 + 1)), (8, va_rf v1), (2, va_rf x1), (4, .int x2)]) dX0_isForbidden_43 rfl rfl (Nat.le_of_ble_eq_true rfl) rfl ?_
      refine am_goto (tgt := 10) dX0_isForbidden_46 (by decide) ?_
      exact am_lss h rfl
    · have h := h.2 c
      refine am_aloadr (x := v1) dX0_isForbidden_25 rfl ?_
      refine fx_gi (k := 5) (f_fldC (ref := "PondHouse$LongAct") inf_X35 (by decide) q349 (Or.inl rfl) f_fld0) dX0_isForbidden_27 h (fun v2 h => ?_)
      refine am_if_eq (tgt := 43) dX0_isForbidden_30 (by decide) (fun c => ?_) (fun c => ?_)
      · have h := h.1 c
        refine am_iinc (x := x3) (v := (x3 + 1)) (L' := [(6, .int (x3 + 1)), (8, va_rf v1), (2, va_rf x1), (4, .int x2)]) dX0_isForbidden_43 rfl rfl (Nat.le_of_ble_eq_true rfl) rfl ?_
        refine am_goto (tgt := 10) dX0_isForbidden_46 (by decide) ?_
        exact am_lss h rfl
      · have h := h.2 c
        refine am_aloadr (x := v1) dX0_isForbidden_33 rfl ?_
        refine fx_gi (k := 6) (f_fldC (ref := "PondHouse$LongAct") inf_X35 (by decide) q350 (Or.inl rfl) f_fld0) dX0_isForbidden_35 h (fun v3 h => ?_)
        refine am_if_eq (tgt := 43) dX0_isForbidden_38 (by decide) (fun c => ?_) (fun c => ?_)
        · have h := h.1 c
          refine am_iinc (x := x3) (v := (x3 + 1)) (L' := [(6, .int (x3 + 1)), (8, va_rf v1), (2, va_rf x1), (4, .int x2)]) dX0_isForbidden_43 rfl rfl (Nat.le_of_ble_eq_true rfl) rfl ?_
          refine am_goto (tgt := 10) dX0_isForbidden_46 (by decide) ?_
          exact am_lss h rfl
        · have h := h.2 c
          refine am_iconst (v := 1) dX0_isForbidden_41 (by decide) ?_
          exact am_zret rfl rfl dX0_isForbidden_42 h
theorem W_X0_makes_f {G : am_G} {d : Nat} {a0 : Nat} {a1 : Option Nat} {σ : am_S} {Q : am_S → Prop} {E : Nat → am_S → Prop} (h : f_new G σ 7 1 tyX7 (fun n1 σ2 => W_X7_init G d n1 σ2 (fun σ4 => f_gr σ4 (some a0) [0] 3 (fun v7 => f_al σ4 v7 9 (fun v8 => B_X0_makes_20 G (d + 1) a0 a1 (some n1) v7 v8 0 σ4 Q E))))) : W_X0_makes G (d + 1) a0 a1 σ Q E := by
  unfold W_X0_makes
  refine fx_new inf_X7 q514 q515 q181 dX0_makes_0 h (fun n1 σ2 h => ?_)
  refine am_dup dX0_makes_3 (am_rf_cat _) ?_
  refine fx_callIN (Mc := m_X7_init) (as := []) bm_X7_init q516 q517 rfl rfl (Nat.le_of_ble_eq_true rfl) dX0_makes_4 (mt_X7_init (fx_k2v h (fun σ4 h => ?_) (fun q σ' h => h.elim)))
  refine am_astore_n (x := (some n1)) (L' := [(4, va_rf (some n1)), (0, va_rf (some a0)), (2, va_rf a1)]) dX0_makes_7 rfl (Nat.le_of_ble_eq_true rfl) rfl ?_
  refine am_aloadr_n (x := some a0) dX0_makes_8 rfl rfl ?_
  refine fx_gr (k := 3) (f_fldC (ref := "PondHouse") inf_X0 (by decide) q1240 (Or.inl rfl) f_fld0) dX0_makes_9 h (fun v7 h => ?_)
  refine am_astore_n (x := v7) (L' := [(6, va_rf v7), (4, va_rf (some n1)), (0, va_rf (some a0)), (2, va_rf a1)]) dX0_makes_12 rfl (Nat.le_of_ble_eq_true rfl) rfl ?_
  refine am_aloadr_n (x := v7) dX0_makes_13 rfl rfl ?_
  refine fx_al (τ := 9) rfl dX0_makes_14 h (fun v8 h => ?_)
  refine am_istore (L' := [(8, .int v8), (6, va_rf v7), (4, va_rf (some n1)), (0, va_rf (some a0)), (2, va_rf a1)]) dX0_makes_15 (Nat.le_of_ble_eq_true rfl) rfl ?_
  refine am_iconst (v := 0) dX0_makes_17 (by decide) ?_
  refine am_istore (L' := [(10, .int 0), (8, .int v8), (6, va_rf v7), (4, va_rf (some n1)), (0, va_rf (some a0)), (2, va_rf a1)]) dX0_makes_18 (Nat.le_of_ble_eq_true rfl) rfl ?_
  exact am_lss h rfl
theorem B_X0_makes_20_f {G : am_G} {d : Nat} {a0 : Nat} {x1 : Option Nat} {x2 : Option Nat} {x3 : Option Nat} {x4 : Int32} {x5 : Int32} {σ : am_S} {Q : am_S → Prop} {E : Nat → am_S → Prop} (h : ((x4 ≤ x5 → B_X0_makes_54 G (d + 1) a0 x1 x2 0 σ Q E) ∧ (¬ x4 ≤ x5 → f_ar σ x3 9 x5 (fun v1 => f_new G σ 8 13 tyX8 (fun n2 σ3 => W_X8_init G d n2 v1 σ3 (fun σ5 => f_o σ5 x2 [7] (fun b => W_X7_add G d b (some n2) σ5 (fun σ9 => B_X0_makes_20 G (d + 1) a0 x1 x2 x3 x4 (x5 + 1) σ9 Q E)))))))) : B_X0_makes_20 G (d + 1) a0 x1 x2 x3 x4 x5 σ Q E := by
  unfold B_X0_makes_20
  refine am_iload (x := x5) dX0_makes_20 rfl ?_
  refine am_iload (x := x4) dX0_makes_22 rfl ?_
  refine am_icmp_ge (tgt := 52) dX0_makes_24 (by decide) (fun c => ?_) (fun c => ?_)
  · have h := h.1 c
    refine am_iconst (v := 0) dX0_makes_52 (by decide) ?_
    refine am_istore_n (L' := [(6, .int 0), (0, va_rf (some a0)), (2, va_rf x1), (4, va_rf x2), (8, .int x4), (10, .int x5)]) dX0_makes_53 rfl (Nat.le_of_ble_eq_true rfl) rfl ?_
    exact am_lss h rfl
  · have h := h.2 c
    refine am_aloadr_n (x := x3) dX0_makes_27 rfl rfl ?_
    refine am_iload (x := x5) dX0_makes_28 rfl ?_
    refine fx_ar (τ := 9) rfl rfl dX0_makes_30 h (fun v1 h => ?_)
    refine am_astore (x := v1) (L' := [(12, va_rf v1), (0, va_rf (some a0)), (2, va_rf x1), (4, va_rf x2), (6, va_rf x3), (8, .int x4), (10, .int x5)]) dX0_makes_31 (Nat.le_of_ble_eq_true rfl) rfl ?_
    refine am_aloadr_n (x := x2) dX0_makes_33 rfl rfl ?_
    refine fx_new inf_X8 q550 q551 q186 dX0_makes_34 h (fun n2 σ3 h => ?_)
    refine am_dup dX0_makes_37 (am_rf_cat _) ?_
    refine am_aloadr (x := v1) dX0_makes_38 rfl ?_
    refine fx_callI (Mc := m_X8_init) (as := [va_rf v1]) bm_X8_init q552 q553 rfl rfl (Nat.le_of_ble_eq_true rfl) dX0_makes_40 (mt_X8_init (fx_k2v h (fun σ5 h => ?_) (fun q σ' h => h.elim)))
    refine fx_callV (Mc := m_X7_add) (as := [va_rf (some n2)]) (cs := [7]) (r := x2) (f_clsC inf_X7 q626 f_cls0) bm_X7_add q624 q625 (Nat.le_of_ble_eq_true rfl) dX0_makes_43 h (fun b h => mt_X7_add (fx_k2v h (fun σ9 h => ?_) (fun q σ' h => h.elim)))
    refine am_iinc (x := x5) (v := (x5 + 1)) (L' := [(10, .int (x5 + 1)), (12, va_rf v1), (0, va_rf (some a0)), (2, va_rf x1), (4, va_rf x2), (6, va_rf x3), (8, .int x4)]) dX0_makes_46 rfl rfl (Nat.le_of_ble_eq_true rfl) rfl ?_
    refine am_goto (tgt := 20) dX0_makes_49 (by decide) ?_
    exact am_lss h rfl
theorem B_X0_makes_54_f {G : am_G} {d : Nat} {a0 : Nat} {x1 : Option Nat} {x2 : Option Nat} {x3 : Int32} {σ : am_S} {Q : am_S → Prop} {E : Nat → am_S → Prop} (h : f_gr σ x1 [24] 0 (fun v1 => f_o σ v1 [7] (fun b => W_X7_size G d b σ (fun v2 σ3 => ((v2 ≤ x3 → f_gr σ3 (some a0) [0] 3 (fun v6 => f_gi σ3 (some a0) [0] 26 (fun v7 => f_o σ3 (some a0) [0] (fun b => W_X0_made G d b x2 v6 (v7 + 1) σ3 (fun v8 σ9 => f_al σ9 v8 9 (fun v12 => B_X0_makes_114 G (d + 1) a0 x1 v8 v8 v12 0 σ9 Q E)))))) ∧ (¬ v2 ≤ x3 → f_gr σ3 x1 [24] 0 (fun v13 => f_o σ3 v13 [7] (fun b => W_X7_get G d b x3 σ3 (fun v14 σ15 => f_k σ15 v14 [25, 26, 28, 29, 30] (f_nn v14 (fun b => V_X27_makes G d b x2 x3 σ15 (fun σ19 => B_X0_makes_54 G (d + 1) a0 x1 x2 (x3 + 1) σ19 Q E) E))))))))))) : B_X0_makes_54 G (d + 1) a0 x1 x2 x3 σ Q E := by
  unfold B_X0_makes_54
  refine am_iload_n (x := x3) dX0_makes_54 rfl rfl ?_
  refine am_aloadr_n (x := x1) dX0_makes_55 rfl rfl ?_
  refine fx_gr (k := 0) (f_fldC (ref := "PondHouse$Patch") inf_X26 (by decide) q2216 (Or.inl rfl) f_fld0) dX0_makes_56 h (fun v1 h => ?_)
  refine fx_callV (Mc := m_X7_size) (as := []) (cs := [7]) (r := v1) (f_clsC inf_X7 q711 f_cls0) bm_X7_size q709 q710 (Nat.le_of_ble_eq_true rfl) dX0_makes_59 h (fun b h => mt_X7_size (fx_k2i h (fun v2 σ3 h => ?_) (fun q σ' h => h.elim)))
  refine am_icmp_ge (tgt := 87) dX0_makes_62 (by decide) (fun c => ?_) (fun c => ?_)
  · have h := h.1 c
    refine am_aloadr_n (x := some a0) dX0_makes_87 rfl rfl ?_
    refine am_aloadr_n (x := x2) dX0_makes_88 rfl rfl ?_
    refine am_aloadr_n (x := some a0) dX0_makes_89 rfl rfl ?_
    refine fx_gr (k := 3) (f_fldC (ref := "PondHouse") inf_X0 (by decide) q1240 (Or.inl rfl) f_fld0) dX0_makes_90 h (fun v6 h => ?_)
    refine am_aloadr_n (x := some a0) dX0_makes_93 rfl rfl ?_
    refine fx_gi (k := 26) (f_fldC (ref := "PondHouse") inf_X0 (by decide) q1266 (Or.inl rfl) f_fld0) dX0_makes_94 h (fun v7 h => ?_)
    refine am_iconst (v := 1) dX0_makes_97 (by decide) ?_
    refine am_iadd dX0_makes_98 ?_
    refine fx_callV (Mc := m_X0_made) (as := [va_rf x2, va_rf v6, .int (v7 + 1)]) (cs := [0]) (r := (some a0)) (f_clsC inf_X0 qs26 f_cls0) bm_X0_made q857 q859 (Nat.le_of_ble_eq_true rfl) dX0_makes_99 h (fun b h => mt_X0_made (fx_k2r h (fun v8 σ9 h => ?_) (fun q σ' h => h.elim)))
    refine am_astore_n (x := v8) (L' := [(6, va_rf v8), (0, va_rf (some a0)), (2, va_rf x1), (4, va_rf x2)]) dX0_makes_102 rfl (Nat.le_of_ble_eq_true rfl) rfl ?_
    refine am_aloadr_n (x := v8) dX0_makes_103 rfl rfl ?_
    refine am_astore (x := v8) (L' := [(8, va_rf v8), (6, va_rf v8), (0, va_rf (some a0)), (2, va_rf x1), (4, va_rf x2)]) dX0_makes_104 (Nat.le_of_ble_eq_true rfl) rfl ?_
    refine am_aloadr (x := v8) dX0_makes_106 rfl ?_
    refine fx_al (τ := 9) rfl dX0_makes_108 h (fun v12 h => ?_)
    refine am_istore (L' := [(10, .int v12), (8, va_rf v8), (6, va_rf v8), (0, va_rf (some a0)), (2, va_rf x1), (4, va_rf x2)]) dX0_makes_109 (Nat.le_of_ble_eq_true rfl) rfl ?_
    refine am_iconst (v := 0) dX0_makes_111 (by decide) ?_
    refine am_istore (L' := [(12, .int 0), (10, .int v12), (8, va_rf v8), (6, va_rf v8), (0, va_rf (some a0)), (2, va_rf x1), (4, va_rf x2)]) dX0_makes_112 (Nat.le_of_ble_eq_true rfl) rfl ?_
    exact am_lss h rfl
  · have h := h.2 c
    refine am_aloadr_n (x := x1) dX0_makes_65 rfl rfl ?_
    refine fx_gr (k := 0) (f_fldC (ref := "PondHouse$Patch") inf_X26 (by decide) q2216 (Or.inl rfl) f_fld0) dX0_makes_66 h (fun v13 h => ?_)
    refine am_iload_n (x := x3) dX0_makes_69 rfl rfl ?_
    refine fx_callV (Mc := m_X7_get) (as := [.int x3]) (cs := [7]) (r := v13) (f_clsC inf_X7 q719 f_cls0) bm_X7_get q717 q718 (Nat.le_of_ble_eq_true rfl) dX0_makes_70 h (fun b h => mt_X7_get (fx_k2r h (fun v14 σ15 h => ?_) (fun q σ' h => h.elim)))
    refine fx_cc (cs := [25, 26, 28, 29, 30]) (f_clsC inf_X28 (Or.inr q3083) (f_clsC inf_X29 (Or.inr q3084) (f_clsC inf_X31 (Or.inr q3085) (f_clsC inf_X32 (Or.inr q3086) (f_clsC inf_X33 (Or.inr q3082) f_cls0))))) q735 dX0_makes_73 h (fun h => ?_)
    refine am_aloadr_n (x := x2) dX0_makes_76 rfl rfl ?_
    refine am_iload_n (x := x3) dX0_makes_77 rfl rfl ?_
    refine fv_X27_makes q736 dX0_makes_78 (Nat.le_of_ble_eq_true rfl) h (fun σ19 h => ?_) (fun q σ' h => am_xout (by decide +kernel) h)
    refine am_iinc (x := x3) (v := (x3 + 1)) (L' := [(6, .int (x3 + 1)), (0, va_rf (some a0)), (2, va_rf x1), (4, va_rf x2)]) dX0_makes_81 rfl rfl (Nat.le_of_ble_eq_true rfl) rfl ?_
    refine am_goto (tgt := 54) dX0_makes_84 (by decide) ?_
    exact am_lss h rfl
theorem B_X0_makes_114_f {G : am_G} {d : Nat} {a0 : Nat} {x1 : Option Nat} {x3 : Option Nat} {x4 : Option Nat} {x5 : Int32} {x6 : Int32} {σ : am_S} {Q : am_S → Prop} {E : Nat → am_S → Prop} (h : ((x5 ≤ x6 → f_gr σ (some a0) [0] 3 (fun v1 => f_gr σ (some a0) [0] 4 (fun v2 => f_o σ (some a0) [0] (fun b => W_X0_carries G d b x1 x3 σ (fun σ4 => f_o σ4 (some a0) [0] (fun b => W_X0_goesOver G d b x3 σ4 (fun σ8 => f_o σ8 (some a0) [0] (fun b => W_X0_checks G d b x1 σ8 (fun σ12 => B_X0_makes_237 G (d + 1) a0 x1 v1 v2 σ12 Q E) (fun q14 σ13 => f_o σ13 (some q14) [5] (fun _ => B_X0_makes_210 G (d + 1) a0 v1 v2 0 (some q14) σ13 Q E)))))) (fun q6 σ5 => f_o σ5 (some q6) [5] (fun _ => B_X0_makes_210 G (d + 1) a0 v1 v2 0 (some q6) σ5 Q E)))))) ∧ (¬ x5 ≤ x6 → f_ar σ x4 9 x6 (fun v15 => W_X0_isDouble G d v15 σ (fun v16 σ17 => ((v16 = 0 → B_X0_makes_114 G (d + 1) a0 x1 x3 x4 x5 (x6 + 1) σ17 Q E) ∧ (¬ v16 = 0 → f_o σ17 (some a0) [0] (fun b => W_X0_refuses G d b 8 (-1) (-1) σ17 (fun v20 σ21 => f_o σ21 v20 [5] (fun q => E q σ21)))))))))) : B_X0_makes_114 G (d + 1) a0 x1 x3 x4 x5 x6 σ Q E := by
  unfold B_X0_makes_114
  refine am_iload (x := x6) dX0_makes_114 rfl ?_
  refine am_iload (x := x5) dX0_makes_116 rfl ?_
  refine am_icmp_ge (tgt := 151) dX0_makes_118 (by decide) (fun c => ?_) (fun c => ?_)
  · have h := h.1 c
    refine am_aloadr_n (x := some a0) dX0_makes_151 rfl rfl ?_
    refine fx_gr (k := 3) (f_fldC (ref := "PondHouse") inf_X0 (by decide) q1240 (Or.inl rfl) f_fld0) dX0_makes_152 h (fun v1 h => ?_)
    refine am_astore (x := v1) (L' := [(8, va_rf v1), (0, va_rf (some a0)), (2, va_rf x1), (6, va_rf x3), (10, .int x5), (12, .int x6)]) dX0_makes_155 (Nat.le_of_ble_eq_true rfl) rfl ?_
    refine am_aloadr_n (x := some a0) dX0_makes_157 rfl rfl ?_
    refine fx_gr (k := 4) (f_fldC (ref := "PondHouse") inf_X0 (by decide) q1241 (Or.inl rfl) f_fld0) dX0_makes_158 h (fun v2 h => ?_)
    refine am_astore (x := v2) (L' := [(10, va_rf v2), (8, va_rf v1), (0, va_rf (some a0)), (2, va_rf x1), (6, va_rf x3), (12, .int x6)]) dX0_makes_161 (Nat.le_of_ble_eq_true rfl) rfl ?_
    refine am_iconst (v := 0) dX0_makes_163 (by decide) ?_
    refine am_istore (L' := [(12, .int 0), (10, va_rf v2), (8, va_rf v1), (0, va_rf (some a0)), (2, va_rf x1), (6, va_rf x3)]) dX0_makes_164 (Nat.le_of_ble_eq_true rfl) rfl ?_
    refine am_aloadr_n (x := some a0) dX0_makes_166 rfl rfl ?_
    refine am_aloadr_n (x := x1) dX0_makes_167 rfl rfl ?_
    refine am_aloadr_n (x := x3) dX0_makes_168 rfl rfl ?_
    refine fx_callV (Mc := m_X0_carries) (as := [va_rf x1, va_rf x3]) (cs := [0]) (r := (some a0)) (f_clsC inf_X0 qs27 f_cls0) bm_X0_carries q959 q961 (Nat.le_of_ble_eq_true rfl) dX0_makes_169 h (fun b h => mt_X0_carries (fx_k2v h (fun σ4 h => ?_) (fun q σ' h => ?_)))
    · refine am_aloadr_n (x := some a0) dX0_makes_172 rfl rfl ?_
      refine am_aloadr_n (x := x3) dX0_makes_173 rfl rfl ?_
      refine fx_callV (Mc := m_X0_goesOver) (as := [va_rf x3]) (cs := [0]) (r := (some a0)) (f_clsC inf_X0 qs30 f_cls0) bm_X0_goesOver q982 q984 (Nat.le_of_ble_eq_true rfl) dX0_makes_174 h (fun b h => mt_X0_goesOver (fx_k2v h (fun σ8 h => ?_) (fun q σ' h => h.elim)))
      refine am_aloadr_n (x := some a0) dX0_makes_177 rfl rfl ?_
      refine am_aloadr_n (x := x1) dX0_makes_178 rfl rfl ?_
      refine fx_callV (Mc := m_X0_checks) (as := [va_rf x1]) (cs := [0]) (r := (some a0)) (f_clsC inf_X0 qs32 f_cls0) bm_X0_checks q1017 q1019 (Nat.le_of_ble_eq_true rfl) dX0_makes_179 h (fun b h => mt_X0_checks (fx_k2v h (fun σ12 h => ?_) (fun q σ' h => ?_)))
      · refine am_iconst (v := 1) dX0_makes_182 (by decide) ?_
        refine am_istore (L' := [(12, .int 1), (10, va_rf v2), (8, va_rf v1), (0, va_rf (some a0)), (2, va_rf x1), (6, va_rf x3)]) dX0_makes_183 (Nat.le_of_ble_eq_true rfl) rfl ?_
        refine am_iload (x := 1) dX0_makes_185 rfl ?_
        refine am_if_ne (tgt := 237) dX0_makes_187 (by decide) (fun c => ?_) (fun c => ?_)
        · exact am_lss h rfl
        · exact absurd c (by decide)
      · refine fx_any [] [{ startPc := 210, endPc := 212, handlerPc := 210, catchType := 0 }] { startPc := 166, endPc := 185, handlerPc := 210, catchType := 0 } (f_clsC inf_X5 trivial f_cls0) (by decide +kernel) (by decide +kernel) (by decide +kernel) rfl h (fun h => ?_)
        exact am_lss h rfl
    · refine fx_any [] [{ startPc := 210, endPc := 212, handlerPc := 210, catchType := 0 }] { startPc := 166, endPc := 185, handlerPc := 210, catchType := 0 } (f_clsC inf_X5 trivial f_cls0) (by decide +kernel) (by decide +kernel) (by decide +kernel) rfl h (fun h => ?_)
      exact am_lss h rfl
  · have h := h.2 c
    refine am_aloadr (x := x4) dX0_makes_121 rfl ?_
    refine am_iload (x := x6) dX0_makes_123 rfl ?_
    refine fx_ar (τ := 9) rfl rfl dX0_makes_125 h (fun v15 h => ?_)
    refine am_astore (x := v15) (L' := [(14, va_rf v15), (0, va_rf (some a0)), (2, va_rf x1), (6, va_rf x3), (8, va_rf x4), (10, .int x5), (12, .int x6)]) dX0_makes_126 (Nat.le_of_ble_eq_true rfl) rfl ?_
    refine am_aloadr (x := v15) dX0_makes_128 rfl ?_
    refine fx_callS (Mc := m_X0_isDouble) (as := [va_rf v15]) bm_X0_isDouble q948 q949 (Nat.le_of_ble_eq_true rfl) dX0_makes_130 (mt_X0_isDouble (fx_k2i h (fun v16 σ17 h => ?_) (fun q σ' h => h.elim)))
    refine am_if_eq (tgt := 145) dX0_makes_133 (by decide) (fun c => ?_) (fun c => ?_)
    · have h := h.1 c
      refine am_iinc (x := x6) (v := (x6 + 1)) (L' := [(12, .int (x6 + 1)), (14, va_rf v15), (0, va_rf (some a0)), (2, va_rf x1), (6, va_rf x3), (8, va_rf x4), (10, .int x5)]) dX0_makes_145 rfl rfl (Nat.le_of_ble_eq_true rfl) rfl ?_
      refine am_goto (tgt := 114) dX0_makes_148 (by decide) ?_
      exact am_lss h rfl
    · have h := h.2 c
      refine am_aloadr_n (x := some a0) dX0_makes_136 rfl rfl ?_
      refine am_bipush (v := 8) dX0_makes_137 (by decide) ?_
      refine am_iconst (v := (-1)) dX0_makes_139 (by decide) ?_
      refine am_iconst (v := (-1)) dX0_makes_140 (by decide) ?_
      refine fx_callV (Mc := m_X0_refuses) (as := [.int 8, .int (-1), .int (-1)]) (cs := [0]) (r := (some a0)) (f_clsC inf_X0 qs23 f_cls0) bm_X0_refuses q958 q753 (Nat.le_of_ble_eq_true rfl) dX0_makes_141 h (fun b h => mt_X0_refuses (fx_k2r h (fun v20 σ21 h => ?_) (fun q σ' h => h.elim)))
      exact fx_throw (cs := [5]) dX0_makes_144 h (fun q h => am_xout (by decide +kernel) h)
theorem B_X0_makes_210_f {G : am_G} {d : Nat} {a0 : Nat} {x4 : Option Nat} {x5 : Option Nat} {x6 : Int32} {s0 : Option Nat} {σ : am_S} {Q : am_S → Prop} {E : Nat → am_S → Prop} (h : ((¬ x6 = 0 → f_o σ s0 [5] (fun q => E q σ)) ∧ (x6 = 0 → f_gr σ (some a0) [0] 3 (fun v1 => ((v1 = x4 → f_o σ s0 [5] (fun q => E q σ)) ∧ (¬ v1 = x4 → f_o σ (some a0) [0] (fun b => W_X0_takesBack G d b x4 x5 σ (fun σ3 => f_o σ3 s0 [5] (fun q => E q σ3))))))))) : B_X0_makes_210 G (d + 1) a0 x4 x5 x6 s0 σ Q E := by
  unfold B_X0_makes_210
  refine am_astore (x := s0) (L' := [(16, va_rf s0), (0, va_rf (some a0)), (8, va_rf x4), (10, va_rf x5), (12, .int x6)]) dX0_makes_210 (Nat.le_of_ble_eq_true rfl) rfl ?_
  refine am_iload (x := x6) dX0_makes_212 rfl ?_
  refine am_if_ne (tgt := 234) dX0_makes_214 (by decide) (fun c => ?_) (fun c => ?_)
  · have h := h.1 c
    refine am_aloadr (x := s0) dX0_makes_234 rfl ?_
    exact fx_throw (cs := [5]) dX0_makes_236 h (fun q h => am_xout (by decide +kernel) h)
  · have h := h.2 c
    refine am_aloadr_n (x := some a0) dX0_makes_217 rfl rfl ?_
    refine fx_gr (k := 3) (f_fldC (ref := "PondHouse") inf_X0 (by decide) q1240 (Or.inl rfl) f_fld0) dX0_makes_218 h (fun v1 h => ?_)
    refine am_aloadr (x := x4) dX0_makes_221 rfl ?_
    refine am_acmp_eq (rx := v1) (ry := x4) (tgt := 234) dX0_makes_223 (by decide) (fun c => ?_) (fun c => ?_)
    · have h := h.1 c
      refine am_aloadr (x := s0) dX0_makes_234 rfl ?_
      exact fx_throw (cs := [5]) dX0_makes_236 h (fun q h => am_xout (by decide +kernel) h)
    · have h := h.2 c
      refine am_aloadr_n (x := some a0) dX0_makes_226 rfl rfl ?_
      refine am_aloadr (x := x4) dX0_makes_227 rfl ?_
      refine am_aloadr (x := x5) dX0_makes_229 rfl ?_
      refine fx_callV (Mc := m_X0_takesBack) (as := [va_rf x4, va_rf x5]) (cs := [0]) (r := (some a0)) (f_clsC inf_X0 qs33 f_cls0) bm_X0_takesBack q1029 q1031 (Nat.le_of_ble_eq_true rfl) dX0_makes_231 h (fun b h => mt_X0_takesBack (fx_k2v h (fun σ3 h => ?_) (fun q σ' h => h.elim)))
      refine am_aloadr (x := s0) dX0_makes_234 rfl ?_
      exact fx_throw (cs := [5]) dX0_makes_236 h (fun q h => am_xout (by decide +kernel) h)
theorem B_X0_makes_237_f {G : am_G} {d : Nat} {a0 : Nat} {x1 : Option Nat} {x4 : Option Nat} {x5 : Option Nat} {σ : am_S} {Q : am_S → Prop} {E : Nat → am_S → Prop} (h : f_gi σ (some a0) [0] 26 (fun v1 => f_p σ (some a0) [0] 26 (.int (v1 + 1)) (fun σ2 => f_p σ2 (some a0) [0] 32 (va_rf x4) (fun σ3 => f_p σ3 (some a0) [0] 33 (va_rf x5) (fun σ4 => f_p σ4 (some a0) [0] 34 (va_rf x1) (fun σ5 => B_X0_makes_267 G (d + 1) a0 0 σ5 Q E)))))) : B_X0_makes_237 G (d + 1) a0 x1 x4 x5 σ Q E := by
  unfold B_X0_makes_237
  refine am_aloadr_n (x := some a0) dX0_makes_237 rfl rfl ?_
  refine am_dup dX0_makes_238 (am_rf_cat _) ?_
  refine fx_gi (k := 26) (f_fldC (ref := "PondHouse") inf_X0 (by decide) q1266 (Or.inl rfl) f_fld0) dX0_makes_239 h (fun v1 h => ?_)
  refine am_iconst (v := 1) dX0_makes_242 (by decide) ?_
  refine am_iadd dX0_makes_243 ?_
  refine fx_p (k := 26) (v := .int (v1 + 1)) (f_putC inf_X0 (by decide) rfl rfl q1266 (Or.inl rfl) f_put0) dX0_makes_244 h (fun σ2 h => ?_)
  refine am_aloadr_n (x := some a0) dX0_makes_247 rfl rfl ?_
  refine am_aloadr (x := x4) dX0_makes_248 rfl ?_
  refine fx_p (k := 32) (v := va_rf x4) (f_putC inf_X0 (by decide) (f_nra _ _) (f_fra _ _) q1272 (Or.inl rfl) f_put0) dX0_makes_250 h (fun σ3 h => ?_)
  refine am_aloadr_n (x := some a0) dX0_makes_253 rfl rfl ?_
  refine am_aloadr (x := x5) dX0_makes_254 rfl ?_
  refine fx_p (k := 33) (v := va_rf x5) (f_putC inf_X0 (by decide) (f_nra _ _) (f_fra _ _) q1273 (Or.inl rfl) f_put0) dX0_makes_256 h (fun σ4 h => ?_)
  refine am_aloadr_n (x := some a0) dX0_makes_259 rfl rfl ?_
  refine am_aloadr_n (x := x1) dX0_makes_260 rfl rfl ?_
  refine fx_p (k := 34) (v := va_rf x1) (f_putC inf_X0 (by decide) (f_nrf _ _) (f_frf _ _) q1274 (Or.inl rfl) f_put0) dX0_makes_261 h (fun σ5 h => ?_)
  refine am_iconst (v := 0) dX0_makes_264 (by decide) ?_
  refine am_istore (L' := [(14, .int 0), (0, va_rf (some a0)), (2, va_rf x1), (8, va_rf x4), (10, va_rf x5)]) dX0_makes_265 (Nat.le_of_ble_eq_true rfl) rfl ?_
  exact am_lss h rfl
theorem B_X0_makes_267_f {G : am_G} {d : Nat} {a0 : Nat} {x7 : Int32} {σ : am_S} {Q : am_S → Prop} {E : Nat → am_S → Prop} (h : f_gi σ (some a0) [0] 6 (fun v1 => ((v1 ≤ x7 → Q σ) ∧ (¬ v1 ≤ x7 → f_gr σ (some a0) [0] 5 (fun v2 => f_ar σ v2 12 x7 (fun v3 => f_gr σ v3 [31] 1 (fun v4 => ((¬ v4 = none → B_X0_makes_267 G (d + 1) a0 (x7 + 1) σ Q E) ∧ (v4 = none → f_gr σ (some a0) [0] 5 (fun v5 => f_ar σ v5 12 x7 (fun v6 => f_o σ (some a0) [0] (fun b => W_X0_endsLong G d b v6 σ (fun σ8 => B_X0_makes_267 G (d + 1) a0 (x7 + 1) σ8 Q E))))))))))))) : B_X0_makes_267 G (d + 1) a0 x7 σ Q E := by
  unfold B_X0_makes_267
  refine am_iload (x := x7) dX0_makes_267 rfl ?_
  refine am_aloadr_n (x := some a0) dX0_makes_269 rfl rfl ?_
  refine fx_gi (k := 6) (f_fldC (ref := "PondHouse") inf_X0 (by decide) q1243 (Or.inl rfl) f_fld0) dX0_makes_270 h (fun v1 h => ?_)
  refine am_icmp_ge (tgt := 306) dX0_makes_273 (by decide) (fun c => ?_) (fun c => ?_)
  · have h := h.1 c
    exact am_vret rfl dX0_makes_306 h
  · have h := h.2 c
    refine am_aloadr_n (x := some a0) dX0_makes_276 rfl rfl ?_
    refine fx_gr (k := 5) (f_fldC (ref := "PondHouse") inf_X0 (by decide) q1242 (Or.inl rfl) f_fld0) dX0_makes_277 h (fun v2 h => ?_)
    refine am_iload (x := x7) dX0_makes_280 rfl ?_
    refine fx_ar (τ := 12) rfl rfl dX0_makes_282 h (fun v3 h => ?_)
    refine fx_gr (k := 1) (f_fldC (ref := "PondHouse$Creature") inf_X34 (by decide) q2253 (Or.inl rfl) f_fld0) dX0_makes_283 h (fun v4 h => ?_)
    refine am_ifnonnullr (tgt := 300) dX0_makes_286 (by decide) (fun c => ?_) (fun c => ?_)
    · have h := h.1 c
      refine am_iinc (x := x7) (v := (x7 + 1)) (L' := [(14, .int (x7 + 1)), (0, va_rf (some a0))]) dX0_makes_300 rfl rfl (Nat.le_of_ble_eq_true rfl) rfl ?_
      refine am_goto (tgt := 267) dX0_makes_303 (by decide) ?_
      exact am_lss h rfl
    · have h := h.2 c
      refine am_aloadr_n (x := some a0) dX0_makes_289 rfl rfl ?_
      refine am_aloadr_n (x := some a0) dX0_makes_290 rfl rfl ?_
      refine fx_gr (k := 5) (f_fldC (ref := "PondHouse") inf_X0 (by decide) q1242 (Or.inl rfl) f_fld0) dX0_makes_291 h (fun v5 h => ?_)
      refine am_iload (x := x7) dX0_makes_294 rfl ?_
      refine fx_ar (τ := 12) rfl rfl dX0_makes_296 h (fun v6 h => ?_)
      refine fx_callV (Mc := m_X0_endsLong) (as := [va_rf v6]) (cs := [0]) (r := (some a0)) (f_clsC inf_X0 qs1 f_cls0) bm_X0_endsLong q226 q228 (Nat.le_of_ble_eq_true rfl) dX0_makes_297 h (fun b h => mt_X0_endsLong (fx_k2v h (fun σ8 h => ?_) (fun q σ' h => h.elim)))
      refine am_iinc (x := x7) (v := (x7 + 1)) (L' := [(14, .int (x7 + 1)), (0, va_rf (some a0))]) dX0_makes_300 rfl rfl (Nat.le_of_ble_eq_true rfl) rfl ?_
      refine am_goto (tgt := 267) dX0_makes_303 (by decide) ?_
      exact am_lss h rfl
theorem W_X0_draft_f {G : am_G} {d : Nat} {a1 : Option Nat} {a2 : Int32} {σ : am_S} {Q : Option Nat → am_S → Prop} (h : B_X0_draft_2 G (d + 1) a1 a2 0 σ Q) : W_X0_draft G (d + 1) a1 a2 σ Q := by
  unfold W_X0_draft
  refine am_iconst (v := 0) dX0_draft_0 (by decide) ?_
  refine am_istore_n (L' := [(4, .int 0), (0, va_rf a1), (2, .int a2)]) dX0_draft_1 rfl (Nat.le_of_ble_eq_true rfl) rfl ?_
  exact am_lss h rfl
theorem B_X0_draft_2_f {G : am_G} {d : Nat} {x0 : Option Nat} {x1 : Int32} {x2 : Int32} {σ : am_S} {Q : Option Nat → am_S → Prop} (h : f_o σ x0 [7] (fun b => W_X7_size G d b σ (fun v1 σ2 => ((v1 ≤ x2 → Q none σ2) ∧ (¬ v1 ≤ x2 → f_o σ2 x0 [7] (fun b => W_X7_get G d b x2 σ2 (fun v5 σ6 => f_k σ6 v5 [8] (f_gi σ6 v5 [8] 0 (fun v9 => ((¬ v9 = x1 → B_X0_draft_2 G (d + 1) x0 x1 (x2 + 1) σ6 Q) ∧ (v9 = x1 → f_o σ6 x0 [7] (fun b => W_X7_get G d b x2 σ6 (fun v10 σ11 => f_k σ11 v10 [8] (Q v10 σ11)))))))))))))) : B_X0_draft_2 G (d + 1) x0 x1 x2 σ Q := by
  unfold B_X0_draft_2
  refine am_iload_n (x := x2) dX0_draft_2 rfl rfl ?_
  refine am_aloadr_n (x := x0) dX0_draft_3 rfl rfl ?_
  refine fx_callV (Mc := m_X7_size) (as := []) (cs := [7]) (r := x0) (f_clsC inf_X7 q711 f_cls0) bm_X7_size q709 q710 (Nat.le_of_ble_eq_true rfl) dX0_draft_4 h (fun b h => mt_X7_size (fx_k2i h (fun v1 σ2 h => ?_) (fun q σ' h => h.elim)))
  refine am_icmp_ge (tgt := 40) dX0_draft_7 (by decide) (fun c => ?_) (fun c => ?_)
  · have h := h.1 c
    refine am_null dX0_draft_40 ?_
    exact fx_aret rfl rfl dX0_draft_41 h
  · have h := h.2 c
    refine am_aloadr_n (x := x0) dX0_draft_10 rfl rfl ?_
    refine am_iload_n (x := x2) dX0_draft_11 rfl rfl ?_
    refine fx_callV (Mc := m_X7_get) (as := [.int x2]) (cs := [7]) (r := x0) (f_clsC inf_X7 q719 f_cls0) bm_X7_get q717 q718 (Nat.le_of_ble_eq_true rfl) dX0_draft_12 h (fun b h => mt_X7_get (fx_k2r h (fun v5 σ6 h => ?_) (fun q σ' h => h.elim)))
    refine fx_cc (cs := [8]) (f_clsC inf_X8 (Or.inl rfl) f_cls0) q550 dX0_draft_15 h (fun h => ?_)
    refine fx_gi (k := 0) (f_fldC (ref := "PondHouse$Draft") inf_X8 (by decide) q563 (Or.inl rfl) f_fld0) dX0_draft_18 h (fun v9 h => ?_)
    refine am_iload_n (x := x1) dX0_draft_21 rfl rfl ?_
    refine am_icmp_ne (tgt := 34) dX0_draft_22 (by decide) (fun c => ?_) (fun c => ?_)
    · have h := h.1 c
      refine am_iinc (x := x2) (v := (x2 + 1)) (L' := [(4, .int (x2 + 1)), (0, va_rf x0), (2, .int x1)]) dX0_draft_34 rfl rfl (Nat.le_of_ble_eq_true rfl) rfl ?_
      refine am_goto (tgt := 2) dX0_draft_37 (by decide) ?_
      exact am_lss h rfl
    · have h := h.2 c
      refine am_aloadr_n (x := x0) dX0_draft_25 rfl rfl ?_
      refine am_iload_n (x := x2) dX0_draft_26 rfl rfl ?_
      refine fx_callV (Mc := m_X7_get) (as := [.int x2]) (cs := [7]) (r := x0) (f_clsC inf_X7 q719 f_cls0) bm_X7_get q717 q718 (Nat.le_of_ble_eq_true rfl) dX0_draft_27 h (fun b h => mt_X7_get (fx_k2r h (fun v10 σ11 h => ?_) (fun q σ' h => h.elim)))
      refine fx_cc (cs := [8]) (f_clsC inf_X8 (Or.inl rfl) f_cls0) q550 dX0_draft_30 h (fun h => ?_)
      exact fx_aret rfl rfl dX0_draft_33 h
theorem W_X0_refuses_f {G : am_G} {d : Nat} {a0 : Nat} {a1 : Int32} {a2 : Int32} {a3 : Int32} {σ : am_S} {Q : Option Nat → am_S → Prop} (h : f_gr σ (some a0) [0] 23 (fun v1 => f_p σ v1 [5] 6 (.int a1) (fun σ2 => f_gr σ2 (some a0) [0] 23 (fun v3 => f_p σ2 v3 [5] 7 (.int a2) (fun σ4 => f_gr σ4 (some a0) [0] 23 (fun v5 => f_p σ4 v5 [5] 8 (.int a3) (fun σ6 => f_gr σ6 (some a0) [0] 23 (fun v7 => Q v7 σ6)))))))) : W_X0_refuses G d a0 a1 a2 a3 σ Q := by
  unfold W_X0_refuses
  refine am_aloadr_n (x := some a0) dX0_refuses_0 rfl rfl ?_
  refine fx_gr (k := 23) (f_fldC (ref := "PondHouse") inf_X0 (by decide) q1263 (Or.inl rfl) f_fld0) dX0_refuses_1 h (fun v1 h => ?_)
  refine am_iload_n (x := a1) dX0_refuses_4 rfl rfl ?_
  refine fx_p (k := 6) (v := .int a1) (f_putC inf_X5 (by decide) rfl rfl q1217 (Or.inl rfl) f_put0) dX0_refuses_5 h (fun σ2 h => ?_)
  refine am_aloadr_n (x := some a0) dX0_refuses_8 rfl rfl ?_
  refine fx_gr (k := 23) (f_fldC (ref := "PondHouse") inf_X0 (by decide) q1263 (Or.inl rfl) f_fld0) dX0_refuses_9 h (fun v3 h => ?_)
  refine am_iload_n (x := a2) dX0_refuses_12 rfl rfl ?_
  refine fx_p (k := 7) (v := .int a2) (f_putC inf_X5 (by decide) rfl rfl q1218 (Or.inl rfl) f_put0) dX0_refuses_13 h (fun σ4 h => ?_)
  refine am_aloadr_n (x := some a0) dX0_refuses_16 rfl rfl ?_
  refine fx_gr (k := 23) (f_fldC (ref := "PondHouse") inf_X0 (by decide) q1263 (Or.inl rfl) f_fld0) dX0_refuses_17 h (fun v5 h => ?_)
  refine am_iload_n (x := a3) dX0_refuses_20 rfl rfl ?_
  refine fx_p (k := 8) (v := .int a3) (f_putC inf_X5 (by decide) rfl rfl q1219 (Or.inl rfl) f_put0) dX0_refuses_21 h (fun σ6 h => ?_)
  refine am_aloadr_n (x := some a0) dX0_refuses_24 rfl rfl ?_
  refine fx_gr (k := 23) (f_fldC (ref := "PondHouse") inf_X0 (by decide) q1263 (Or.inl rfl) f_fld0) dX0_refuses_25 h (fun v7 h => ?_)
  exact fx_aret rfl rfl dX0_refuses_28 h
theorem W_X0_made_f {G : am_G} {d : Nat} {a0 : Nat} {a1 : Option Nat} {a2 : Option Nat} {a3 : Int32} {σ : am_S} {Q : Option Nat → am_S → Prop} (h : f_o σ a1 [7] (fun b => W_X7_size G d b σ (fun v1 σ2 => f_na G σ2 9 f_a0r v1 (fun n5 σ6 => f_al σ6 (some n5) 9 (fun v7 => B_X0_made_14 G (d + 1) a0 a1 a2 a3 (some n5) v7 σ6 Q))))) : W_X0_made G (d + 1) a0 a1 a2 a3 σ Q := by
  unfold W_X0_made
  refine am_aloadr_n (x := a1) dX0_made_0 rfl rfl ?_
  refine fx_callV (Mc := m_X7_size) (as := []) (cs := [7]) (r := a1) (f_clsC inf_X7 q711 f_cls0) bm_X7_size q709 q710 (Nat.le_of_ble_eq_true rfl) dX0_made_1 h (fun b h => mt_X7_size (fx_k2i h (fun v1 σ2 h => ?_) (fun q σ' h => h.elim)))
  refine fx_nar (τ := 9) q861 q862 rfl dX0_made_4 h (fun n5 σ6 h => ?_)
  refine am_astore (x := (some n5)) (L' := [(8, va_rf (some n5)), (0, va_rf (some a0)), (2, va_rf a1), (4, va_rf a2), (6, .int a3)]) dX0_made_7 (Nat.le_of_ble_eq_true rfl) rfl ?_
  refine am_aloadr (x := (some n5)) dX0_made_9 rfl ?_
  refine fx_al (τ := 9) rfl dX0_made_11 h (fun v7 h => ?_)
  refine am_istore (L' := [(10, .int v7), (8, va_rf (some n5)), (0, va_rf (some a0)), (2, va_rf a1), (4, va_rf a2), (6, .int a3)]) dX0_made_12 (Nat.le_of_ble_eq_true rfl) rfl ?_
  exact am_lss h rfl
theorem B_X0_made_14_f {G : am_G} {d : Nat} {a0 : Nat} {x1 : Option Nat} {x2 : Option Nat} {x3 : Int32} {x4 : Option Nat} {x5 : Int32} {σ : am_S} {Q : Option Nat → am_S → Prop} (h : ((x5 ≤ 0 → Q x4 σ) ∧ (¬ x5 ≤ 0 → B_X0_made_22 G (d + 1) a0 x1 x2 x3 x4 x5 0 σ Q))) : B_X0_made_14 G (d + 1) a0 x1 x2 x3 x4 x5 σ Q := by
  unfold B_X0_made_14
  refine am_iload (x := x5) dX0_made_14 rfl ?_
  refine am_if_le (tgt := 178) dX0_made_16 (by decide) (fun c => ?_) (fun c => ?_)
  · have h := h.1 c
    refine am_aloadr (x := x4) dX0_made_178 rfl ?_
    exact fx_aret rfl rfl dX0_made_180 h
  · have h := h.2 c
    refine am_iconst (v := 0) dX0_made_19 (by decide) ?_
    refine am_istore (L' := [(12, .int 0), (2, va_rf x1), (4, va_rf x2), (6, .int x3), (8, va_rf x4), (10, .int x5)]) dX0_made_20 (Nat.le_of_ble_eq_true rfl) rfl ?_
    exact am_lss h rfl
theorem B_X0_made_22_f {G : am_G} {d : Nat} {a0 : Nat} {x1 : Option Nat} {x2 : Option Nat} {x3 : Int32} {x4 : Option Nat} {x5 : Int32} {x6 : Int32} {σ : am_S} {Q : Option Nat → am_S → Prop} (h : f_al σ x4 9 (fun v1 => ((v1 ≤ x6 → B_X0_made_14 G (d + 1) a0 x1 x2 x3 x4 x5 σ Q) ∧ (¬ v1 ≤ x6 → f_o σ x1 [7] (fun b => W_X7_get G d b x6 σ (fun v2 σ3 => f_k σ3 v2 [8] (f_gi σ3 v2 [8] 1 (fun v6 => ((¬ v6 = (-1) → f_gi σ3 v2 [8] 1 (fun v7 => W_X0_place G d x1 v7 σ3 (fun v8 σ9 => f_ar σ9 x4 9 v8 (fun v12 => B_X0_made_66 G (d + 1) a0 x1 x2 x3 x4 x5 x6 v2 v12 σ9 Q)))) ∧ (v6 = (-1) → B_X0_made_66 G (d + 1) a0 x1 x2 x3 x4 x5 x6 v2 none σ3 Q)))))))))) : B_X0_made_22 G (d + 1) a0 x1 x2 x3 x4 x5 x6 σ Q := by
  unfold B_X0_made_22
  refine am_iload (x := x6) dX0_made_22 rfl ?_
  refine am_aloadr (x := x4) dX0_made_24 rfl ?_
  refine fx_al (τ := 9) rfl dX0_made_26 h (fun v1 h => ?_)
  refine am_icmp_ge (tgt := 175) dX0_made_27 (by decide) (fun c => ?_) (fun c => ?_)
  · have h := h.1 c
    refine am_goto (tgt := 14) dX0_made_175 (by decide) ?_
    exact am_lss h rfl
  · have h := h.2 c
    refine am_aloadr_n (x := x1) dX0_made_30 rfl rfl ?_
    refine am_iload (x := x6) dX0_made_31 rfl ?_
    refine fx_callV (Mc := m_X7_get) (as := [.int x6]) (cs := [7]) (r := x1) (f_clsC inf_X7 q719 f_cls0) bm_X7_get q717 q718 (Nat.le_of_ble_eq_true rfl) dX0_made_33 h (fun b h => mt_X7_get (fx_k2r h (fun v2 σ3 h => ?_) (fun q σ' h => h.elim)))
    refine fx_cc (cs := [8]) (f_clsC inf_X8 (Or.inl rfl) f_cls0) q550 dX0_made_36 h (fun h => ?_)
    refine am_astore (x := v2) (L' := [(14, va_rf v2), (2, va_rf x1), (4, va_rf x2), (6, .int x3), (8, va_rf x4), (10, .int x5), (12, .int x6)]) dX0_made_39 (Nat.le_of_ble_eq_true rfl) rfl ?_
    refine am_aloadr (x := v2) dX0_made_41 rfl ?_
    refine fx_gi (k := 1) (f_fldC (ref := "PondHouse$Draft") inf_X8 (by decide) q567 (Or.inl rfl) f_fld0) dX0_made_43 h (fun v6 h => ?_)
    refine am_iconst (v := (-1)) dX0_made_46 (by decide) ?_
    refine am_icmp_ne (tgt := 54) dX0_made_47 (by decide) (fun c => ?_) (fun c => ?_)
    · have h := h.1 c
      refine am_aloadr (x := x4) dX0_made_54 rfl ?_
      refine am_aloadr_n (x := x1) dX0_made_56 rfl rfl ?_
      refine am_aloadr (x := v2) dX0_made_57 rfl ?_
      refine fx_gi (k := 1) (f_fldC (ref := "PondHouse$Draft") inf_X8 (by decide) q567 (Or.inl rfl) f_fld0) dX0_made_59 h (fun v7 h => ?_)
      refine fx_callS (Mc := m_X0_place) (as := [va_rf x1, .int v7]) bm_X0_place q863 q864 (Nat.le_of_ble_eq_true rfl) dX0_made_62 (mt_X0_place (fx_k2i h (fun v8 σ9 h => ?_) (fun q σ' h => h.elim)))
      refine fx_ar (τ := 9) rfl rfl dX0_made_65 h (fun v12 h => ?_)
      exact am_lss h rfl
    · have h := h.2 c
      refine am_null dX0_made_50 ?_
      refine am_goto (tgt := 66) dX0_made_51 (by decide) ?_
      exact am_lss h rfl
theorem B_X0_made_66_f {G : am_G} {d : Nat} {a0 : Nat} {x1 : Option Nat} {x2 : Option Nat} {x3 : Int32} {x4 : Option Nat} {x5 : Int32} {x6 : Int32} {x7 : Option Nat} {s0 : Option Nat} {σ : am_S} {Q : Option Nat → am_S → Prop} (h : f_ar σ x4 9 x6 (fun v1 => ((¬ v1 = none → B_X0_made_22 G (d + 1) a0 x1 x2 x3 x4 x5 (x6 + 1) σ Q) ∧ (v1 = none → f_gi σ x7 [8] 1 (fun v2 => ((v2 = (-1) → B_X0_made_93 G (d + 1) a0 x1 x2 x3 x4 x5 x6 x7 s0 σ Q) ∧ (¬ v2 = (-1) → ((¬ s0 = none → B_X0_made_93 G (d + 1) a0 x1 x2 x3 x4 x5 x6 x7 s0 σ Q) ∧ (s0 = none → B_X0_made_22 G (d + 1) a0 x1 x2 x3 x4 x5 (x6 + 1) σ Q))))))))) : B_X0_made_66 G (d + 1) a0 x1 x2 x3 x4 x5 x6 x7 s0 σ Q := by
  unfold B_X0_made_66
  refine am_astore (x := s0) (L' := [(16, va_rf s0), (2, va_rf x1), (4, va_rf x2), (6, .int x3), (8, va_rf x4), (10, .int x5), (12, .int x6), (14, va_rf x7)]) dX0_made_66 (Nat.le_of_ble_eq_true rfl) rfl ?_
  refine am_aloadr (x := x4) dX0_made_68 rfl ?_
  refine am_iload (x := x6) dX0_made_70 rfl ?_
  refine fx_ar (τ := 9) rfl rfl dX0_made_72 h (fun v1 h => ?_)
  refine am_ifnonnullr (tgt := 169) dX0_made_73 (by decide) (fun c => ?_) (fun c => ?_)
  · have h := h.1 c
    refine am_iinc (x := x6) (v := (x6 + 1)) (L' := [(12, .int (x6 + 1)), (16, va_rf s0), (2, va_rf x1), (4, va_rf x2), (6, .int x3), (8, va_rf x4), (10, .int x5), (14, va_rf x7)]) dX0_made_169 rfl rfl (Nat.le_of_ble_eq_true rfl) rfl ?_
    refine am_goto (tgt := 22) dX0_made_172 (by decide) ?_
    exact am_lss h rfl
  · have h := h.2 c
    refine am_aloadr (x := x7) dX0_made_76 rfl ?_
    refine fx_gi (k := 1) (f_fldC (ref := "PondHouse$Draft") inf_X8 (by decide) q567 (Or.inl rfl) f_fld0) dX0_made_78 h (fun v2 h => ?_)
    refine am_iconst (v := (-1)) dX0_made_81 (by decide) ?_
    refine am_icmp_eq (tgt := 93) dX0_made_82 (by decide) (fun c => ?_) (fun c => ?_)
    · have h := h.1 c
      exact am_lss h rfl
    · have h := h.2 c
      refine am_aloadr (x := s0) dX0_made_85 rfl ?_
      refine am_ifnonnullr (tgt := 93) dX0_made_87 (by decide) (fun c => ?_) (fun c => ?_)
      · have h := h.1 c
        exact am_lss h rfl
      · have h := h.2 c
        refine am_goto (tgt := 169) dX0_made_90 (by decide) ?_
        refine am_iinc (x := x6) (v := (x6 + 1)) (L' := [(12, .int (x6 + 1)), (16, va_rf s0), (2, va_rf x1), (4, va_rf x2), (6, .int x3), (8, va_rf x4), (10, .int x5), (14, va_rf x7)]) dX0_made_169 rfl rfl (Nat.le_of_ble_eq_true rfl) rfl ?_
        refine am_goto (tgt := 22) dX0_made_172 (by decide) ?_
        exact am_lss h rfl
theorem B_X0_made_93_f {G : am_G} {d : Nat} {a0 : Nat} {x1 : Option Nat} {x2 : Option Nat} {x3 : Int32} {x4 : Option Nat} {x5 : Int32} {x6 : Int32} {x7 : Option Nat} {x8 : Option Nat} {σ : am_S} {Q : Option Nat → am_S → Prop} (h : f_gi σ x7 [8] 0 (fun v1 => W_X0_find G d x2 v1 σ (fun v2 σ3 => f_gi σ3 x7 [8] 2 (fun v6 => ((¬ v6 = 0 → B_X0_made_135 G (d + 1) a0 x1 x2 x3 x4 x5 x6 x7 x8 v2 0 σ3 Q) ∧ (v6 = 0 → ((v2 = (-1) → B_X0_made_135 G (d + 1) a0 x1 x2 x3 x4 x5 x6 x7 x8 v2 0 σ3 Q) ∧ (¬ v2 = (-1) → f_ar σ3 x2 9 v2 (fun v7 => f_gr σ3 v7 [21] 2 (fun v8 => ((¬ v8 = x8 → B_X0_made_135 G (d + 1) a0 x1 x2 x3 x4 x5 x6 x7 x8 v2 0 σ3 Q) ∧ (v8 = x8 → B_X0_made_135 G (d + 1) a0 x1 x2 x3 x4 x5 x6 x7 x8 v2 1 σ3 Q)))))))))))) : B_X0_made_93 G (d + 1) a0 x1 x2 x3 x4 x5 x6 x7 x8 σ Q := by
  unfold B_X0_made_93
  refine am_aloadr_n (x := x2) dX0_made_93 rfl rfl ?_
  refine am_aloadr (x := x7) dX0_made_94 rfl ?_
  refine fx_gi (k := 0) (f_fldC (ref := "PondHouse$Draft") inf_X8 (by decide) q563 (Or.inl rfl) f_fld0) dX0_made_96 h (fun v1 h => ?_)
  refine fx_callS (Mc := m_X0_find) (as := [va_rf x2, .int v1]) bm_X0_find q218 q219 (Nat.le_of_ble_eq_true rfl) dX0_made_99 (mt_X0_find (fx_k2i h (fun v2 σ3 h => ?_) (fun q σ' h => h.elim)))
  refine am_istore (L' := [(18, .int v2), (2, va_rf x1), (4, va_rf x2), (6, .int x3), (8, va_rf x4), (10, .int x5), (12, .int x6), (14, va_rf x7), (16, va_rf x8)]) dX0_made_102 (Nat.le_of_ble_eq_true rfl) rfl ?_
  refine am_aloadr (x := x7) dX0_made_104 rfl ?_
  refine fx_gi (k := 2) (f_fldC (ref := "PondHouse$Draft") inf_X8 (by decide) q572 (Or.inl rfl) f_fld0) dX0_made_106 h (fun v6 h => ?_)
  refine am_if_ne (tgt := 134) dX0_made_109 (by decide) (fun c => ?_) (fun c => ?_)
  · have h := h.1 c
    refine am_iconst (v := 0) dX0_made_134 (by decide) ?_
    exact am_lss h rfl
  · have h := h.2 c
    refine am_iload (x := v2) dX0_made_112 rfl ?_
    refine am_iconst (v := (-1)) dX0_made_114 (by decide) ?_
    refine am_icmp_eq (tgt := 134) dX0_made_115 (by decide) (fun c => ?_) (fun c => ?_)
    · have h := h.1 c
      refine am_iconst (v := 0) dX0_made_134 (by decide) ?_
      exact am_lss h rfl
    · have h := h.2 c
      refine am_aloadr_n (x := x2) dX0_made_118 rfl rfl ?_
      refine am_iload (x := v2) dX0_made_119 rfl ?_
      refine fx_ar (τ := 9) rfl rfl dX0_made_121 h (fun v7 h => ?_)
      refine fx_gr (k := 2) (f_fldC (ref := "PondHouse$Kind") inf_X23 (by decide) q913 (Or.inl rfl) f_fld0) dX0_made_122 h (fun v8 h => ?_)
      refine am_aloadr (x := x8) dX0_made_125 rfl ?_
      refine am_acmp_ne (rx := v8) (ry := x8) (tgt := 134) dX0_made_127 (by decide) (fun c => ?_) (fun c => ?_)
      · have h := h.1 c
        refine am_iconst (v := 0) dX0_made_134 (by decide) ?_
        exact am_lss h rfl
      · have h := h.2 c
        refine am_iconst (v := 1) dX0_made_130 (by decide) ?_
        refine am_goto (tgt := 135) dX0_made_131 (by decide) ?_
        exact am_lss h rfl
theorem B_X0_made_135_f {G : am_G} {d : Nat} {a0 : Nat} {x1 : Option Nat} {x2 : Option Nat} {x3 : Int32} {x4 : Option Nat} {x5 : Int32} {x6 : Int32} {x7 : Option Nat} {x8 : Option Nat} {x9 : Int32} {s0 : Int32} {σ : am_S} {Q : Option Nat → am_S → Prop} (h : ((s0 = 0 → f_new G σ 21 9 tyX23 (fun n1 σ2 => W_X23_init G d n1 x7 x8 x3 σ2 (fun σ4 => f_sr σ4 x4 9 [21] x6 (some n1) (fun σ7 => B_X0_made_22 G (d + 1) a0 x1 x2 x3 x4 (x5 + (-1)) (x6 + 1) σ7 Q)))) ∧ (¬ s0 = 0 → f_ar σ x2 9 x9 (fun v8 => f_sr σ x4 9 [21] x6 v8 (fun σ9 => B_X0_made_22 G (d + 1) a0 x1 x2 x3 x4 (x5 + (-1)) (x6 + 1) σ9 Q))))) : B_X0_made_135 G (d + 1) a0 x1 x2 x3 x4 x5 x6 x7 x8 x9 s0 σ Q := by
  unfold B_X0_made_135
  refine am_istore (L' := [(20, .int s0), (2, va_rf x1), (4, va_rf x2), (6, .int x3), (8, va_rf x4), (10, .int x5), (12, .int x6), (14, va_rf x7), (16, va_rf x8), (18, .int x9)]) dX0_made_135 (Nat.le_of_ble_eq_true rfl) rfl ?_
  refine am_aloadr (x := x4) dX0_made_137 rfl ?_
  refine am_iload (x := x6) dX0_made_139 rfl ?_
  refine am_iload (x := s0) dX0_made_141 rfl ?_
  refine am_if_eq (tgt := 153) dX0_made_143 (by decide) (fun c => ?_) (fun c => ?_)
  · have h := h.1 c
    refine fx_new inf_X23 q861 q254 q201 dX0_made_153 h (fun n1 σ2 h => ?_)
    refine am_dup dX0_made_156 (am_rf_cat _) ?_
    refine am_aloadr (x := x7) dX0_made_157 rfl ?_
    refine am_aloadr (x := x8) dX0_made_159 rfl ?_
    refine am_iload_n (x := x3) dX0_made_161 rfl rfl ?_
    refine fx_callI (Mc := m_X23_init) (as := [va_rf x7, va_rf x8, .int x3]) bm_X23_init q866 q867 rfl rfl (Nat.le_of_ble_eq_true rfl) dX0_made_162 (mt_X23_init (fx_k2v h (fun σ4 h => ?_) (fun q σ' h => h.elim)))
    refine fx_sr (τ := 9) (E := "PondHouse$Kind") (cs := [21]) (v := (some n1)) rfl (f_clsC inf_X23 (Or.inl rfl) f_cls0) dX0_made_165 h (fun σ7 h => ?_)
    refine am_iinc (x := x5) (v := (x5 + (-1))) (L' := [(10, .int (x5 + (-1))), (20, .int s0), (2, va_rf x1), (4, va_rf x2), (6, .int x3), (8, va_rf x4), (12, .int x6), (14, va_rf x7), (16, va_rf x8), (18, .int x9)]) dX0_made_166 rfl rfl (Nat.le_of_ble_eq_true rfl) rfl ?_
    refine am_iinc (x := x6) (v := (x6 + 1)) (L' := [(12, .int (x6 + 1)), (10, .int (x5 + (-1))), (20, .int s0), (2, va_rf x1), (4, va_rf x2), (6, .int x3), (8, va_rf x4), (14, va_rf x7), (16, va_rf x8), (18, .int x9)]) dX0_made_169 rfl rfl (Nat.le_of_ble_eq_true rfl) rfl ?_
    refine am_goto (tgt := 22) dX0_made_172 (by decide) ?_
    exact am_lss h rfl
  · have h := h.2 c
    refine am_aloadr_n (x := x2) dX0_made_146 rfl rfl ?_
    refine am_iload (x := x9) dX0_made_147 rfl ?_
    refine fx_ar (τ := 9) rfl rfl dX0_made_149 h (fun v8 h => ?_)
    refine am_goto (tgt := 165) dX0_made_150 (by decide) ?_
    refine fx_sr (τ := 9) (E := "PondHouse$Kind") (cs := [21]) (v := v8) rfl (f_clsC inf_X23 (Or.inl rfl) f_cls0) dX0_made_165 h (fun σ9 h => ?_)
    refine am_iinc (x := x5) (v := (x5 + (-1))) (L' := [(10, .int (x5 + (-1))), (20, .int s0), (2, va_rf x1), (4, va_rf x2), (6, .int x3), (8, va_rf x4), (12, .int x6), (14, va_rf x7), (16, va_rf x8), (18, .int x9)]) dX0_made_166 rfl rfl (Nat.le_of_ble_eq_true rfl) rfl ?_
    refine am_iinc (x := x6) (v := (x6 + 1)) (L' := [(12, .int (x6 + 1)), (10, .int (x5 + (-1))), (20, .int s0), (2, va_rf x1), (4, va_rf x2), (6, .int x3), (8, va_rf x4), (14, va_rf x7), (16, va_rf x8), (18, .int x9)]) dX0_made_169 rfl rfl (Nat.le_of_ble_eq_true rfl) rfl ?_
    refine am_goto (tgt := 22) dX0_made_172 (by decide) ?_
    exact am_lss h rfl
theorem W_X0_place_f {G : am_G} {d : Nat} {a1 : Option Nat} {a2 : Int32} {σ : am_S} {Q : Int32 → am_S → Prop} (h : B_X0_place_2 G (d + 1) a1 a2 0 σ Q) : W_X0_place G (d + 1) a1 a2 σ Q := by
  unfold W_X0_place
  refine am_iconst (v := 0) dX0_place_0 (by decide) ?_
  refine am_istore_n (L' := [(4, .int 0), (0, va_rf a1), (2, .int a2)]) dX0_place_1 rfl (Nat.le_of_ble_eq_true rfl) rfl ?_
  exact am_lss h rfl
theorem B_X0_place_2_f {G : am_G} {d : Nat} {x0 : Option Nat} {x1 : Int32} {x2 : Int32} {σ : am_S} {Q : Int32 → am_S → Prop} (h : f_o σ x0 [7] (fun b => W_X7_get G d b x2 σ (fun v1 σ2 => f_k σ2 v1 [8] (f_gi σ2 v1 [8] 0 (fun v5 => ((v5 = x1 → Q x2 σ2) ∧ (¬ v5 = x1 → B_X0_place_2 G (d + 1) x0 x1 (x2 + 1) σ2 Q))))))) : B_X0_place_2 G (d + 1) x0 x1 x2 σ Q := by
  unfold B_X0_place_2
  refine am_aloadr_n (x := x0) dX0_place_2 rfl rfl ?_
  refine am_iload_n (x := x2) dX0_place_3 rfl rfl ?_
  refine fx_callV (Mc := m_X7_get) (as := [.int x2]) (cs := [7]) (r := x0) (f_clsC inf_X7 q719 f_cls0) bm_X7_get q717 q718 (Nat.le_of_ble_eq_true rfl) dX0_place_4 h (fun b h => mt_X7_get (fx_k2r h (fun v1 σ2 h => ?_) (fun q σ' h => h.elim)))
  refine fx_cc (cs := [8]) (f_clsC inf_X8 (Or.inl rfl) f_cls0) q550 dX0_place_7 h (fun h => ?_)
  refine fx_gi (k := 0) (f_fldC (ref := "PondHouse$Draft") inf_X8 (by decide) q563 (Or.inl rfl) f_fld0) dX0_place_10 h (fun v5 h => ?_)
  refine am_iload_n (x := x1) dX0_place_13 rfl rfl ?_
  refine am_icmp_eq (tgt := 23) dX0_place_14 (by decide) (fun c => ?_) (fun c => ?_)
  · have h := h.1 c
    refine am_iload_n (x := x2) dX0_place_23 rfl rfl ?_
    exact am_iret rfl dX0_place_24 h
  · have h := h.2 c
    refine am_iinc (x := x2) (v := (x2 + 1)) (L' := [(4, .int (x2 + 1)), (0, va_rf x0), (2, .int x1)]) dX0_place_17 rfl rfl (Nat.le_of_ble_eq_true rfl) rfl ?_
    refine am_goto (tgt := 2) dX0_place_20 (by decide) ?_
    exact am_lss h rfl
theorem W_X0_isDouble_f {G : am_G} {d : Nat} {a1 : Option Nat} {σ : am_S} {Q : Int32 → am_S → Prop} (h : f_gr σ a1 [21] 2 (fun v1 => B_X0_isDouble_5 G (d + 1) a1 v1 σ Q)) : W_X0_isDouble G (d + 1) a1 σ Q := by
  unfold W_X0_isDouble
  refine am_aloadr_n (x := a1) dX0_isDouble_0 rfl rfl ?_
  refine fx_gr (k := 2) (f_fldC (ref := "PondHouse$Kind") inf_X23 (by decide) q913 (Or.inl rfl) f_fld0) dX0_isDouble_1 h (fun v1 h => ?_)
  refine am_astore_n (x := v1) (L' := [(2, va_rf v1), (0, va_rf a1)]) dX0_isDouble_4 rfl (Nat.le_of_ble_eq_true rfl) rfl ?_
  exact am_lss h rfl
theorem B_X0_isDouble_5_f {G : am_G} {d : Nat} {x0 : Option Nat} {x1 : Option Nat} {σ : am_S} {Q : Int32 → am_S → Prop} (h : ((x1 = none → Q 0 σ) ∧ (¬ x1 = none → f_gr σ x0 [21] 3 (fun v1 => f_al σ v1 0 (fun v2 => B_X0_isDouble_20 G (d + 1) x0 x1 v1 v2 0 σ Q))))) : B_X0_isDouble_5 G (d + 1) x0 x1 σ Q := by
  unfold B_X0_isDouble_5
  refine am_aloadr_n (x := x1) dX0_isDouble_5 rfl rfl ?_
  refine am_ifnullr (tgt := 121) dX0_isDouble_6 (by decide) (fun c => ?_) (fun c => ?_)
  · have h := h.1 c
    refine am_iconst (v := 0) dX0_isDouble_121 (by decide) ?_
    exact am_zret rfl rfl dX0_isDouble_122 h
  · have h := h.2 c
    refine am_aloadr_n (x := x0) dX0_isDouble_9 rfl rfl ?_
    refine fx_gr (k := 3) (f_fldC (ref := "PondHouse$Kind") inf_X23 (by decide) q916 (Or.inl rfl) f_fld0) dX0_isDouble_10 h (fun v1 h => ?_)
    refine am_astore_n (x := v1) (L' := [(4, va_rf v1), (0, va_rf x0), (2, va_rf x1)]) dX0_isDouble_13 rfl (Nat.le_of_ble_eq_true rfl) rfl ?_
    refine am_aloadr_n (x := v1) dX0_isDouble_14 rfl rfl ?_
    refine fx_al (τ := 0) rfl dX0_isDouble_15 h (fun v2 h => ?_)
    refine am_istore_n (L' := [(6, .int v2), (4, va_rf v1), (0, va_rf x0), (2, va_rf x1)]) dX0_isDouble_16 rfl (Nat.le_of_ble_eq_true rfl) rfl ?_
    refine am_iconst (v := 0) dX0_isDouble_17 (by decide) ?_
    refine am_istore (L' := [(8, .int 0), (6, .int v2), (4, va_rf v1), (0, va_rf x0), (2, va_rf x1)]) dX0_isDouble_18 (Nat.le_of_ble_eq_true rfl) rfl ?_
    exact am_lss h rfl
theorem B_X0_isDouble_20_f {G : am_G} {d : Nat} {x0 : Option Nat} {x1 : Option Nat} {x2 : Option Nat} {x3 : Int32} {x4 : Int32} {σ : am_S} {Q : Int32 → am_S → Prop} (h : ((x3 ≤ x4 → f_gr σ x0 [21] 5 (fun v1 => f_al σ v1 0 (fun v2 => B_X0_isDouble_72 G (d + 1) x0 x1 v1 v2 0 σ Q))) ∧ (¬ x3 ≤ x4 → f_ai σ x2 0 x4 (fun v3 => f_o σ x1 [21] (fun b => W_X23_hasOwn G d b v3 σ (fun v4 σ5 => ((¬ v4 = 0 → Q 1 σ5) ∧ (v4 = 0 → f_gr σ5 x1 [21] 5 (fun v8 => W_X0_has_2 G d v8 v3 σ5 (fun v9 σ10 => ((v9 = 0 → B_X0_isDouble_20 G (d + 1) x0 x1 x2 x3 (x4 + 1) σ10 Q) ∧ (¬ v9 = 0 → Q 1 σ10)))))))))))) : B_X0_isDouble_20 G (d + 1) x0 x1 x2 x3 x4 σ Q := by
  unfold B_X0_isDouble_20
  refine am_iload (x := x4) dX0_isDouble_20 rfl ?_
  refine am_iload_n (x := x3) dX0_isDouble_22 rfl rfl ?_
  refine am_icmp_ge (tgt := 61) dX0_isDouble_23 (by decide) (fun c => ?_) (fun c => ?_)
  · have h := h.1 c
    refine am_aloadr_n (x := x0) dX0_isDouble_61 rfl rfl ?_
    refine fx_gr (k := 5) (f_fldC (ref := "PondHouse$Kind") inf_X23 (by decide) q921 (Or.inl rfl) f_fld0) dX0_isDouble_62 h (fun v1 h => ?_)
    refine am_astore_n (x := v1) (L' := [(4, va_rf v1), (0, va_rf x0), (2, va_rf x1), (6, .int x3), (8, .int x4)]) dX0_isDouble_65 rfl (Nat.le_of_ble_eq_true rfl) rfl ?_
    refine am_aloadr_n (x := v1) dX0_isDouble_66 rfl rfl ?_
    refine fx_al (τ := 0) rfl dX0_isDouble_67 h (fun v2 h => ?_)
    refine am_istore_n (L' := [(6, .int v2), (4, va_rf v1), (0, va_rf x0), (2, va_rf x1), (8, .int x4)]) dX0_isDouble_68 rfl (Nat.le_of_ble_eq_true rfl) rfl ?_
    refine am_iconst (v := 0) dX0_isDouble_69 (by decide) ?_
    refine am_istore (L' := [(8, .int 0), (6, .int v2), (4, va_rf v1), (0, va_rf x0), (2, va_rf x1)]) dX0_isDouble_70 (Nat.le_of_ble_eq_true rfl) rfl ?_
    exact am_lss h rfl
  · have h := h.2 c
    refine am_aloadr_n (x := x2) dX0_isDouble_26 rfl rfl ?_
    refine am_iload (x := x4) dX0_isDouble_27 rfl ?_
    refine fx_ai0 dX0_isDouble_29 h (fun v3 h => ?_)
    refine am_istore (L' := [(10, .int v3), (0, va_rf x0), (2, va_rf x1), (4, va_rf x2), (6, .int x3), (8, .int x4)]) dX0_isDouble_30 (Nat.le_of_ble_eq_true rfl) rfl ?_
    refine am_aloadr_n (x := x1) dX0_isDouble_32 rfl rfl ?_
    refine am_iload (x := v3) dX0_isDouble_33 rfl ?_
    refine fx_callV (Mc := m_X23_hasOwn) (as := [.int v3]) (cs := [21]) (r := x1) (f_clsC inf_X23 q953 f_cls0) bm_X23_hasOwn q951 q952 (Nat.le_of_ble_eq_true rfl) dX0_isDouble_35 h (fun b h => mt_X23_hasOwn (fx_k2i h (fun v4 σ5 h => ?_) (fun q σ' h => h.elim)))
    refine am_if_ne (tgt := 53) dX0_isDouble_38 (by decide) (fun c => ?_) (fun c => ?_)
    · have h := h.1 c
      refine am_iconst (v := 1) dX0_isDouble_53 (by decide) ?_
      exact am_zret rfl rfl dX0_isDouble_54 h
    · have h := h.2 c
      refine am_aloadr_n (x := x1) dX0_isDouble_41 rfl rfl ?_
      refine fx_gr (k := 5) (f_fldC (ref := "PondHouse$Kind") inf_X23 (by decide) q921 (Or.inl rfl) f_fld0) dX0_isDouble_42 h (fun v8 h => ?_)
      refine am_iload (x := v3) dX0_isDouble_45 rfl ?_
      refine fx_callS (Mc := m_X0_has_2) (as := [va_rf v8, .int v3]) bm_X0_has_2 q955 q956 (Nat.le_of_ble_eq_true rfl) dX0_isDouble_47 (mt_X0_has_2 (fx_k2i h (fun v9 σ10 h => ?_) (fun q σ' h => h.elim)))
      refine am_if_eq (tgt := 55) dX0_isDouble_50 (by decide) (fun c => ?_) (fun c => ?_)
      · have h := h.1 c
        refine am_iinc (x := x4) (v := (x4 + 1)) (L' := [(8, .int (x4 + 1)), (10, .int v3), (0, va_rf x0), (2, va_rf x1), (4, va_rf x2), (6, .int x3)]) dX0_isDouble_55 rfl rfl (Nat.le_of_ble_eq_true rfl) rfl ?_
        refine am_goto (tgt := 20) dX0_isDouble_58 (by decide) ?_
        exact am_lss h rfl
      · have h := h.2 c
        refine am_iconst (v := 1) dX0_isDouble_53 (by decide) ?_
        exact am_zret rfl rfl dX0_isDouble_54 h
theorem B_X0_isDouble_72_f {G : am_G} {d : Nat} {x0 : Option Nat} {x1 : Option Nat} {x2 : Option Nat} {x3 : Int32} {x4 : Int32} {σ : am_S} {Q : Int32 → am_S → Prop} (h : ((x3 ≤ x4 → f_gr σ x1 [21] 2 (fun v1 => B_X0_isDouble_5 G (d + 1) x0 v1 σ Q)) ∧ (¬ x3 ≤ x4 → f_ai σ x2 0 x4 (fun v2 => f_o σ x1 [21] (fun b => W_X23_hasOwn G d b v2 σ (fun v3 σ4 => ((¬ v3 = 0 → Q 1 σ4) ∧ (v3 = 0 → f_gr σ4 x1 [21] 5 (fun v7 => W_X0_has_2 G d v7 v2 σ4 (fun v8 σ9 => ((v8 = 0 → B_X0_isDouble_72 G (d + 1) x0 x1 x2 x3 (x4 + 1) σ9 Q) ∧ (¬ v8 = 0 → Q 1 σ9)))))))))))) : B_X0_isDouble_72 G (d + 1) x0 x1 x2 x3 x4 σ Q := by
  unfold B_X0_isDouble_72
  refine am_iload (x := x4) dX0_isDouble_72 rfl ?_
  refine am_iload_n (x := x3) dX0_isDouble_74 rfl rfl ?_
  refine am_icmp_ge (tgt := 113) dX0_isDouble_75 (by decide) (fun c => ?_) (fun c => ?_)
  · have h := h.1 c
    refine am_aloadr_n (x := x1) dX0_isDouble_113 rfl rfl ?_
    refine fx_gr (k := 2) (f_fldC (ref := "PondHouse$Kind") inf_X23 (by decide) q913 (Or.inl rfl) f_fld0) dX0_isDouble_114 h (fun v1 h => ?_)
    refine am_astore_n (x := v1) (L' := [(2, va_rf v1), (0, va_rf x0), (4, va_rf x2), (6, .int x3), (8, .int x4)]) dX0_isDouble_117 rfl (Nat.le_of_ble_eq_true rfl) rfl ?_
    refine am_goto (tgt := 5) dX0_isDouble_118 (by decide) ?_
    exact am_lss h rfl
  · have h := h.2 c
    refine am_aloadr_n (x := x2) dX0_isDouble_78 rfl rfl ?_
    refine am_iload (x := x4) dX0_isDouble_79 rfl ?_
    refine fx_ai0 dX0_isDouble_81 h (fun v2 h => ?_)
    refine am_istore (L' := [(10, .int v2), (0, va_rf x0), (2, va_rf x1), (4, va_rf x2), (6, .int x3), (8, .int x4)]) dX0_isDouble_82 (Nat.le_of_ble_eq_true rfl) rfl ?_
    refine am_aloadr_n (x := x1) dX0_isDouble_84 rfl rfl ?_
    refine am_iload (x := v2) dX0_isDouble_85 rfl ?_
    refine fx_callV (Mc := m_X23_hasOwn) (as := [.int v2]) (cs := [21]) (r := x1) (f_clsC inf_X23 q953 f_cls0) bm_X23_hasOwn q951 q952 (Nat.le_of_ble_eq_true rfl) dX0_isDouble_87 h (fun b h => mt_X23_hasOwn (fx_k2i h (fun v3 σ4 h => ?_) (fun q σ' h => h.elim)))
    refine am_if_ne (tgt := 105) dX0_isDouble_90 (by decide) (fun c => ?_) (fun c => ?_)
    · have h := h.1 c
      refine am_iconst (v := 1) dX0_isDouble_105 (by decide) ?_
      exact am_zret rfl rfl dX0_isDouble_106 h
    · have h := h.2 c
      refine am_aloadr_n (x := x1) dX0_isDouble_93 rfl rfl ?_
      refine fx_gr (k := 5) (f_fldC (ref := "PondHouse$Kind") inf_X23 (by decide) q921 (Or.inl rfl) f_fld0) dX0_isDouble_94 h (fun v7 h => ?_)
      refine am_iload (x := v2) dX0_isDouble_97 rfl ?_
      refine fx_callS (Mc := m_X0_has_2) (as := [va_rf v7, .int v2]) bm_X0_has_2 q955 q956 (Nat.le_of_ble_eq_true rfl) dX0_isDouble_99 (mt_X0_has_2 (fx_k2i h (fun v8 σ9 h => ?_) (fun q σ' h => h.elim)))
      refine am_if_eq (tgt := 107) dX0_isDouble_102 (by decide) (fun c => ?_) (fun c => ?_)
      · have h := h.1 c
        refine am_iinc (x := x4) (v := (x4 + 1)) (L' := [(8, .int (x4 + 1)), (10, .int v2), (0, va_rf x0), (2, va_rf x1), (4, va_rf x2), (6, .int x3)]) dX0_isDouble_107 rfl rfl (Nat.le_of_ble_eq_true rfl) rfl ?_
        refine am_goto (tgt := 72) dX0_isDouble_110 (by decide) ?_
        exact am_lss h rfl
      · have h := h.2 c
        refine am_iconst (v := 1) dX0_isDouble_105 (by decide) ?_
        exact am_zret rfl rfl dX0_isDouble_106 h
theorem W_X0_has_2_f {G : am_G} {d : Nat} {a1 : Option Nat} {a2 : Int32} {σ : am_S} {Q : Int32 → am_S → Prop} (h : f_al σ a1 0 (fun v1 => B_X0_has_2_8 G d a2 a1 v1 0 σ Q)) : W_X0_has_2 G d a1 a2 σ Q := by
  unfold W_X0_has_2
  refine am_aloadr_n (x := a1) dX0_has_2_0 rfl rfl ?_
  refine am_astore_n (x := a1) (L' := [(4, va_rf a1), (0, va_rf a1), (2, .int a2)]) dX0_has_2_1 rfl (Nat.le_of_ble_eq_true rfl) rfl ?_
  refine am_aloadr_n (x := a1) dX0_has_2_2 rfl rfl ?_
  refine fx_al (τ := 0) rfl dX0_has_2_3 h (fun v1 h => ?_)
  refine am_istore_n (L' := [(6, .int v1), (4, va_rf a1), (0, va_rf a1), (2, .int a2)]) dX0_has_2_4 rfl (Nat.le_of_ble_eq_true rfl) rfl ?_
  refine am_iconst (v := 0) dX0_has_2_5 (by decide) ?_
  refine am_istore (L' := [(8, .int 0), (6, .int v1), (4, va_rf a1), (0, va_rf a1), (2, .int a2)]) dX0_has_2_6 (Nat.le_of_ble_eq_true rfl) rfl ?_
  exact am_lss h rfl
theorem B_X0_has_2_8_f {G : am_G} {d : Nat} {x1 : Int32} {x2 : Option Nat} {x3 : Int32} {x4 : Int32} {σ : am_S} {Q : Int32 → am_S → Prop} (h : ((x3 ≤ x4 → Q 0 σ) ∧ (¬ x3 ≤ x4 → f_ai σ x2 0 x4 (fun v1 => ((¬ v1 = x1 → B_X0_has_2_8 G d x1 x2 x3 (x4 + 1) σ Q) ∧ (v1 = x1 → Q 1 σ)))))) : B_X0_has_2_8 G d x1 x2 x3 x4 σ Q := by
  unfold B_X0_has_2_8
  refine am_iload (x := x4) dX0_has_2_8 rfl ?_
  refine am_iload_n (x := x3) dX0_has_2_10 rfl rfl ?_
  refine am_icmp_ge (tgt := 34) dX0_has_2_11 (by decide) (fun c => ?_) (fun c => ?_)
  · have h := h.1 c
    refine am_iconst (v := 0) dX0_has_2_34 (by decide) ?_
    exact am_zret rfl rfl dX0_has_2_35 h
  · have h := h.2 c
    refine am_aloadr_n (x := x2) dX0_has_2_14 rfl rfl ?_
    refine am_iload (x := x4) dX0_has_2_15 rfl ?_
    refine fx_ai0 dX0_has_2_17 h (fun v1 h => ?_)
    refine am_istore (L' := [(10, .int v1), (2, .int x1), (4, va_rf x2), (6, .int x3), (8, .int x4)]) dX0_has_2_18 (Nat.le_of_ble_eq_true rfl) rfl ?_
    refine am_iload (x := v1) dX0_has_2_20 rfl ?_
    refine am_iload_n (x := x1) dX0_has_2_22 rfl rfl ?_
    refine am_icmp_ne (tgt := 28) dX0_has_2_23 (by decide) (fun c => ?_) (fun c => ?_)
    · have h := h.1 c
      refine am_iinc (x := x4) (v := (x4 + 1)) (L' := [(8, .int (x4 + 1)), (10, .int v1), (2, .int x1), (4, va_rf x2), (6, .int x3)]) dX0_has_2_28 rfl rfl (Nat.le_of_ble_eq_true rfl) rfl ?_
      refine am_goto (tgt := 8) dX0_has_2_31 (by decide) ?_
      exact am_lss h rfl
    · have h := h.2 c
      refine am_iconst (v := 1) dX0_has_2_26 (by decide) ?_
      exact am_zret rfl rfl dX0_has_2_27 h
theorem W_X0_carries_f {G : am_G} {d : Nat} {a0 : Nat} {a1 : Option Nat} {a2 : Option Nat} {σ : am_S} {Q : am_S → Prop} {E : Nat → am_S → Prop} (h : B_X0_carries_2 G (d + 1) a0 a1 a2 0 σ Q E) : W_X0_carries G (d + 1) a0 a1 a2 σ Q E := by
  unfold W_X0_carries
  refine am_iconst (v := 0) dX0_carries_0 (by decide) ?_
  refine am_istore_n (L' := [(6, .int 0), (0, va_rf (some a0)), (2, va_rf a1), (4, va_rf a2)]) dX0_carries_1 rfl (Nat.le_of_ble_eq_true rfl) rfl ?_
  exact am_lss h rfl
theorem B_X0_carries_2_f {G : am_G} {d : Nat} {a0 : Nat} {x1 : Option Nat} {x2 : Option Nat} {x3 : Int32} {σ : am_S} {Q : am_S → Prop} {E : Nat → am_S → Prop} (h : f_gi σ (some a0) [0] 6 (fun v1 => ((v1 ≤ x3 → Q σ) ∧ (¬ v1 ≤ x3 → f_gr σ (some a0) [0] 5 (fun v2 => f_ar σ v2 12 x3 (fun v3 => f_gr σ v3 [31] 1 (fun v4 => ((¬ v4 = none → f_gr σ v3 [31] 1 (fun v5 => f_gi σ v5 [21] 0 (fun v6 => W_X0_find G d x2 v6 σ (fun v7 σ8 => f_gr σ8 (some a0) [0] 30 (fun v11 => ((¬ v7 = (-1) → f_ar σ8 x2 9 v7 (fun v12 => B_X0_carries_63 G (d + 1) a0 x1 x2 x3 v3 v7 v12 x3 v11 σ8 Q E)) ∧ (v7 = (-1) → B_X0_carries_63 G (d + 1) a0 x1 x2 x3 v3 v7 none x3 v11 σ8 Q E))))))) ∧ (v4 = none → f_gr σ (some a0) [0] 30 (fun v13 => B_X0_carries_63 G (d + 1) a0 x1 x2 x3 v3 (-1) none x3 v13 σ Q E)))))))))) : B_X0_carries_2 G (d + 1) a0 x1 x2 x3 σ Q E := by
  unfold B_X0_carries_2
  refine am_iload_n (x := x3) dX0_carries_2 rfl rfl ?_
  refine am_aloadr_n (x := some a0) dX0_carries_3 rfl rfl ?_
  refine fx_gi (k := 6) (f_fldC (ref := "PondHouse") inf_X0 (by decide) q1243 (Or.inl rfl) f_fld0) dX0_carries_4 h (fun v1 h => ?_)
  refine am_icmp_ge (tgt := 251) dX0_carries_7 (by decide) (fun c => ?_) (fun c => ?_)
  · have h := h.1 c
    exact am_vret rfl dX0_carries_251 h
  · have h := h.2 c
    refine am_aloadr_n (x := some a0) dX0_carries_10 rfl rfl ?_
    refine fx_gr (k := 5) (f_fldC (ref := "PondHouse") inf_X0 (by decide) q1242 (Or.inl rfl) f_fld0) dX0_carries_11 h (fun v2 h => ?_)
    refine am_iload_n (x := x3) dX0_carries_14 rfl rfl ?_
    refine fx_ar (τ := 12) rfl rfl dX0_carries_15 h (fun v3 h => ?_)
    refine am_astore (x := v3) (L' := [(8, va_rf v3), (0, va_rf (some a0)), (2, va_rf x1), (4, va_rf x2), (6, .int x3)]) dX0_carries_16 (Nat.le_of_ble_eq_true rfl) rfl ?_
    refine am_aloadr (x := v3) dX0_carries_18 rfl ?_
    refine fx_gr (k := 1) (f_fldC (ref := "PondHouse$Creature") inf_X34 (by decide) q2253 (Or.inl rfl) f_fld0) dX0_carries_20 h (fun v4 h => ?_)
    refine am_ifnonnullr (tgt := 30) dX0_carries_23 (by decide) (fun c => ?_) (fun c => ?_)
    · have h := h.1 c
      refine am_aloadr_n (x := x2) dX0_carries_30 rfl rfl ?_
      refine am_aloadr (x := v3) dX0_carries_31 rfl ?_
      refine fx_gr (k := 1) (f_fldC (ref := "PondHouse$Creature") inf_X34 (by decide) q2253 (Or.inl rfl) f_fld0) dX0_carries_33 h (fun v5 h => ?_)
      refine fx_gi (k := 0) (f_fldC (ref := "PondHouse$Kind") inf_X23 (by decide) q907 (Or.inl rfl) f_fld0) dX0_carries_36 h (fun v6 h => ?_)
      refine fx_callS (Mc := m_X0_find) (as := [va_rf x2, .int v6]) bm_X0_find q218 q219 (Nat.le_of_ble_eq_true rfl) dX0_carries_39 (mt_X0_find (fx_k2i h (fun v7 σ8 h => ?_) (fun q σ' h => h.elim)))
      refine am_istore (L' := [(10, .int v7), (8, va_rf v3), (0, va_rf (some a0)), (2, va_rf x1), (4, va_rf x2), (6, .int x3)]) dX0_carries_42 (Nat.le_of_ble_eq_true rfl) rfl ?_
      refine am_aloadr_n (x := some a0) dX0_carries_44 rfl rfl ?_
      refine fx_gr (k := 30) (f_fldC (ref := "PondHouse") inf_X0 (by decide) q1270 (Or.inl rfl) f_fld0) dX0_carries_45 h (fun v11 h => ?_)
      refine am_iload_n (x := x3) dX0_carries_48 rfl rfl ?_
      refine am_iload (x := v7) dX0_carries_49 rfl ?_
      refine am_iconst (v := (-1)) dX0_carries_51 (by decide) ?_
      refine am_icmp_ne (tgt := 59) dX0_carries_52 (by decide) (fun c => ?_) (fun c => ?_)
      · have h := h.1 c
        refine am_aloadr_n (x := x2) dX0_carries_59 rfl rfl ?_
        refine am_iload (x := v7) dX0_carries_60 rfl ?_
        refine fx_ar (τ := 9) rfl rfl dX0_carries_62 h (fun v12 h => ?_)
        exact am_lss h rfl
      · have h := h.2 c
        refine am_null dX0_carries_55 ?_
        refine am_goto (tgt := 63) dX0_carries_56 (by decide) ?_
        exact am_lss h rfl
    · have h := h.2 c
      refine am_iconst (v := (-1)) dX0_carries_26 (by decide) ?_
      refine am_goto (tgt := 42) dX0_carries_27 (by decide) ?_
      refine am_istore (L' := [(10, .int (-1)), (8, va_rf v3), (0, va_rf (some a0)), (2, va_rf x1), (4, va_rf x2), (6, .int x3)]) dX0_carries_42 (Nat.le_of_ble_eq_true rfl) rfl ?_
      refine am_aloadr_n (x := some a0) dX0_carries_44 rfl rfl ?_
      refine fx_gr (k := 30) (f_fldC (ref := "PondHouse") inf_X0 (by decide) q1270 (Or.inl rfl) f_fld0) dX0_carries_45 h (fun v13 h => ?_)
      refine am_iload_n (x := x3) dX0_carries_48 rfl rfl ?_
      refine am_iload (x := (-1)) dX0_carries_49 rfl ?_
      refine am_iconst (v := (-1)) dX0_carries_51 (by decide) ?_
      refine am_icmp_ne (tgt := 59) dX0_carries_52 (by decide) (fun c => ?_) (fun c => ?_)
      · exact absurd c (by decide)
      · refine am_null dX0_carries_55 ?_
        refine am_goto (tgt := 63) dX0_carries_56 (by decide) ?_
        exact am_lss h rfl
theorem B_X0_carries_63_f {G : am_G} {d : Nat} {a0 : Nat} {x1 : Option Nat} {x2 : Option Nat} {x3 : Int32} {x4 : Option Nat} {x5 : Int32} {s0 : Option Nat} {s1 : Int32} {s2 : Option Nat} {σ : am_S} {Q : am_S → Prop} {E : Nat → am_S → Prop} (h : f_sr σ s2 9 [21] s1 s0 (fun σ1 => f_gr σ1 (some a0) [0] 31 (fun v2 => f_gr σ1 x4 [31] 2 (fun v3 => f_sA σ1 v2 17 0 x3 v3 (fun σ4 => ((x5 = (-1) → B_X0_carries_2 G (d + 1) a0 x1 x2 (x3 + 1) σ4 Q E) ∧ (¬ x5 = (-1) → f_ar σ4 x2 9 x5 (fun v5 => f_gr σ4 x4 [31] 1 (fun v6 => ((¬ v5 = v6 → f_ar σ4 x2 9 x5 (fun v7 => f_o σ4 v7 [21] (fun b => W_X23_all G d b σ4 (fun v8 σ9 => f_na G σ9 0 f_a0i v8 (fun n12 σ13 => B_X0_carries_110 G (d + 1) a0 x1 x2 x3 x4 x5 (some n12) 0 σ13 Q E))))) ∧ (v5 = v6 → B_X0_carries_2 G (d + 1) a0 x1 x2 (x3 + 1) σ4 Q E))))))))))) : B_X0_carries_63 G (d + 1) a0 x1 x2 x3 x4 x5 s0 s1 s2 σ Q E := by
  unfold B_X0_carries_63
  refine fx_sr (τ := 9) (E := "PondHouse$Kind") (cs := [21]) (v := s0) rfl (f_clsC inf_X23 (Or.inl rfl) f_cls0) dX0_carries_63 h (fun σ1 h => ?_)
  refine am_aloadr_n (x := some a0) dX0_carries_64 rfl rfl ?_
  refine fx_gr (k := 31) (f_fldC (ref := "PondHouse") inf_X0 (by decide) q1271 (Or.inl rfl) f_fld0) dX0_carries_65 h (fun v2 h => ?_)
  refine am_iload_n (x := x3) dX0_carries_68 rfl rfl ?_
  refine am_aloadr (x := x4) dX0_carries_69 rfl ?_
  refine fx_gr (k := 2) (f_fldC (ref := "PondHouse$Creature") inf_X34 (by decide) q2255 (Or.inl rfl) f_fld0) dX0_carries_71 h (fun v3 h => ?_)
  refine fx_sA (τ := 17) (t := 0) (ty := .int) dX0_carries_74 rfl rfl q1231 (fun s h => h) (fun s h => h) h (fun σ4 h => ?_)
  refine am_iload (x := x5) dX0_carries_75 rfl ?_
  refine am_iconst (v := (-1)) dX0_carries_77 (by decide) ?_
  refine am_icmp_eq (tgt := 245) dX0_carries_78 (by decide) (fun c => ?_) (fun c => ?_)
  · have h := h.1 c
    refine am_iinc (x := x3) (v := (x3 + 1)) (L' := [(6, .int (x3 + 1)), (0, va_rf (some a0)), (2, va_rf x1), (4, va_rf x2), (8, va_rf x4), (10, .int x5)]) dX0_carries_245 rfl rfl (Nat.le_of_ble_eq_true rfl) rfl ?_
    refine am_goto (tgt := 2) dX0_carries_248 (by decide) ?_
    exact am_lss h rfl
  · have h := h.2 c
    refine am_aloadr_n (x := x2) dX0_carries_81 rfl rfl ?_
    refine am_iload (x := x5) dX0_carries_82 rfl ?_
    refine fx_ar (τ := 9) rfl rfl dX0_carries_84 h (fun v5 h => ?_)
    refine am_aloadr (x := x4) dX0_carries_85 rfl ?_
    refine fx_gr (k := 1) (f_fldC (ref := "PondHouse$Creature") inf_X34 (by decide) q2253 (Or.inl rfl) f_fld0) dX0_carries_87 h (fun v6 h => ?_)
    refine am_acmp_ne (rx := v5) (ry := v6) (tgt := 96) dX0_carries_90 (by decide) (fun c => ?_) (fun c => ?_)
    · have h := h.1 c
      refine am_aloadr_n (x := x2) dX0_carries_96 rfl rfl ?_
      refine am_iload (x := x5) dX0_carries_97 rfl ?_
      refine fx_ar (τ := 9) rfl rfl dX0_carries_99 h (fun v7 h => ?_)
      refine fx_callV (Mc := m_X23_all) (as := []) (cs := [21]) (r := v7) (f_clsC inf_X23 q236 f_cls0) bm_X23_all q234 q235 (Nat.le_of_ble_eq_true rfl) dX0_carries_100 h (fun b h => mt_X23_all (fx_k2i h (fun v8 σ9 h => ?_) (fun q σ' h => h.elim)))
      refine fx_nai (atype := .int) (τ := 0) q281 rfl (fun N cA => rfl) dX0_carries_103 h (fun n12 σ13 h => ?_)
      refine am_astore (x := (some n12)) (L' := [(12, va_rf (some n12)), (0, va_rf (some a0)), (2, va_rf x1), (4, va_rf x2), (6, .int x3), (8, va_rf x4), (10, .int x5)]) dX0_carries_105 (Nat.le_of_ble_eq_true rfl) rfl ?_
      refine am_iconst (v := 0) dX0_carries_107 (by decide) ?_
      refine am_istore (L' := [(14, .int 0), (12, va_rf (some n12)), (0, va_rf (some a0)), (2, va_rf x1), (4, va_rf x2), (6, .int x3), (8, va_rf x4), (10, .int x5)]) dX0_carries_108 (Nat.le_of_ble_eq_true rfl) rfl ?_
      exact am_lss h rfl
    · have h := h.2 c
      refine am_goto (tgt := 245) dX0_carries_93 (by decide) ?_
      refine am_iinc (x := x3) (v := (x3 + 1)) (L' := [(6, .int (x3 + 1)), (0, va_rf (some a0)), (2, va_rf x1), (4, va_rf x2), (8, va_rf x4), (10, .int x5)]) dX0_carries_245 rfl rfl (Nat.le_of_ble_eq_true rfl) rfl ?_
      refine am_goto (tgt := 2) dX0_carries_248 (by decide) ?_
      exact am_lss h rfl
theorem B_X0_carries_110_f {G : am_G} {d : Nat} {a0 : Nat} {x1 : Option Nat} {x2 : Option Nat} {x3 : Int32} {x4 : Option Nat} {x5 : Int32} {x6 : Option Nat} {x7 : Int32} {σ : am_S} {Q : am_S → Prop} {E : Nat → am_S → Prop} (h : f_al σ x6 0 (fun v1 => ((v1 ≤ x7 → f_gr σ (some a0) [0] 31 (fun v2 => f_sA σ v2 17 0 x3 x6 (fun σ3 => B_X0_carries_2 G (d + 1) a0 x1 x2 (x3 + 1) σ3 Q E))) ∧ (¬ v1 ≤ x7 → f_ar σ x2 9 x5 (fun v4 => f_ar σ x2 9 x5 (fun v5 => f_o σ v5 [21] (fun b => W_X23_field G d b x7 σ (fun v6 σ7 => f_o σ7 (some a0) [0] (fun b => W_X0_ruling G d b x1 v4 v6 σ7 (fun v10 σ11 => f_ar σ11 x2 9 x5 (fun v14 => f_gr σ11 x4 [31] 1 (fun v15 => f_gr σ11 (some a0) [0] 3 (fun v16 => W_X0_comes G d v14 x7 v15 x2 v16 σ11 (fun v17 σ18 => ((v10 = (-1) → ((v17 = (-1) → f_ar σ18 x2 9 x5 (fun v21 => f_o σ18 v21 [21] (fun b => W_X23_first G d b x7 σ18 (fun v22 σ23 => f_si σ23 x6 0 x7 v22 (fun σ26 => B_X0_carries_110 G (d + 1) a0 x1 x2 x3 x4 x5 x6 (x7 + 1) σ26 Q E))))) ∧ (¬ v17 = (-1) → f_gr σ18 x4 [31] 2 (fun v27 => f_ai σ18 v27 0 v17 (fun v28 => f_si σ18 x6 0 x7 v28 (fun σ29 => B_X0_carries_110 G (d + 1) a0 x1 x2 x3 x4 x5 x6 (x7 + 1) σ29 Q E)))))) ∧ (¬ v10 = (-1) → f_gr σ18 x1 [24] 0 (fun v30 => f_o σ18 v30 [7] (fun b => W_X7_get G d b v10 σ18 (fun v31 σ32 => f_k σ32 v31 [26] (f_ar σ32 x2 9 x5 (fun v35 => f_o σ32 v35 [21] (fun b => W_X23_field G d b x7 σ32 (fun v36 σ37 => f_o σ37 v31 [26] (fun b => W_X29_rule G d b v36 σ37 (fun v40 σ41 => f_o σ41 (some a0) [0] (fun b => W_X0_ruled G d b v40 x4 v10 σ41 (fun v44 σ45 => f_si σ45 x6 0 x7 v44 (fun σ48 => B_X0_carries_110 G (d + 1) a0 x1 x2 x3 x4 x5 x6 (x7 + 1) σ48 Q E)) E)))))))))))))))))))))))))) : B_X0_carries_110 G (d + 1) a0 x1 x2 x3 x4 x5 x6 x7 σ Q E := by
  unfold B_X0_carries_110
  refine am_iload (x := x7) dX0_carries_110 rfl ?_
  refine am_aloadr (x := x6) dX0_carries_112 rfl ?_
  refine fx_al (τ := 0) rfl dX0_carries_114 h (fun v1 h => ?_)
  refine am_icmp_ge (tgt := 237) dX0_carries_115 (by decide) (fun c => ?_) (fun c => ?_)
  · have h := h.1 c
    refine am_aloadr_n (x := some a0) dX0_carries_237 rfl rfl ?_
    refine fx_gr (k := 31) (f_fldC (ref := "PondHouse") inf_X0 (by decide) q1271 (Or.inl rfl) f_fld0) dX0_carries_238 h (fun v2 h => ?_)
    refine am_iload_n (x := x3) dX0_carries_241 rfl rfl ?_
    refine am_aloadr (x := x6) dX0_carries_242 rfl ?_
    refine fx_sA (τ := 17) (t := 0) (ty := .int) dX0_carries_244 rfl rfl q1231 (fun s h => h) (fun s h => h) h (fun σ3 h => ?_)
    refine am_iinc (x := x3) (v := (x3 + 1)) (L' := [(6, .int (x3 + 1)), (0, va_rf (some a0)), (2, va_rf x1), (4, va_rf x2), (8, va_rf x4), (10, .int x5), (12, va_rf x6), (14, .int x7)]) dX0_carries_245 rfl rfl (Nat.le_of_ble_eq_true rfl) rfl ?_
    refine am_goto (tgt := 2) dX0_carries_248 (by decide) ?_
    exact am_lss h rfl
  · have h := h.2 c
    refine am_aloadr_n (x := some a0) dX0_carries_118 rfl rfl ?_
    refine am_aloadr_n (x := x1) dX0_carries_119 rfl rfl ?_
    refine am_aloadr_n (x := x2) dX0_carries_120 rfl rfl ?_
    refine am_iload (x := x5) dX0_carries_121 rfl ?_
    refine fx_ar (τ := 9) rfl rfl dX0_carries_123 h (fun v4 h => ?_)
    refine am_aloadr_n (x := x2) dX0_carries_124 rfl rfl ?_
    refine am_iload (x := x5) dX0_carries_125 rfl ?_
    refine fx_ar (τ := 9) rfl rfl dX0_carries_127 h (fun v5 h => ?_)
    refine am_iload (x := x7) dX0_carries_128 rfl ?_
    refine fx_callV (Mc := m_X23_field) (as := [.int x7]) (cs := [21]) (r := v5) (f_clsC inf_X23 q249 f_cls0) bm_X23_field q247 q248 (Nat.le_of_ble_eq_true rfl) dX0_carries_130 h (fun b h => mt_X23_field (fx_k2i h (fun v6 σ7 h => ?_) (fun q σ' h => h.elim)))
    refine fx_callV (Mc := m_X0_ruling) (as := [va_rf x1, va_rf v4, .int v6]) (cs := [0]) (r := (some a0)) (f_clsC inf_X0 qs28 f_cls0) bm_X0_ruling q963 q965 (Nat.le_of_ble_eq_true rfl) dX0_carries_133 h (fun b h => mt_X0_ruling (fx_k2i h (fun v10 σ11 h => ?_) (fun q σ' h => h.elim)))
    refine am_istore (L' := [(16, .int v10), (0, va_rf (some a0)), (2, va_rf x1), (4, va_rf x2), (6, .int x3), (8, va_rf x4), (10, .int x5), (12, va_rf x6), (14, .int x7)]) dX0_carries_136 (Nat.le_of_ble_eq_true rfl) rfl ?_
    refine am_aloadr_n (x := x2) dX0_carries_138 rfl rfl ?_
    refine am_iload (x := x5) dX0_carries_139 rfl ?_
    refine fx_ar (τ := 9) rfl rfl dX0_carries_141 h (fun v14 h => ?_)
    refine am_iload (x := x7) dX0_carries_142 rfl ?_
    refine am_aloadr (x := x4) dX0_carries_144 rfl ?_
    refine fx_gr (k := 1) (f_fldC (ref := "PondHouse$Creature") inf_X34 (by decide) q2253 (Or.inl rfl) f_fld0) dX0_carries_146 h (fun v15 h => ?_)
    refine am_aloadr_n (x := x2) dX0_carries_149 rfl rfl ?_
    refine am_aloadr_n (x := some a0) dX0_carries_150 rfl rfl ?_
    refine fx_gr (k := 3) (f_fldC (ref := "PondHouse") inf_X0 (by decide) q1240 (Or.inl rfl) f_fld0) dX0_carries_151 h (fun v16 h => ?_)
    refine fx_callS (Mc := m_X0_comes) (as := [va_rf v14, .int x7, va_rf v15, va_rf x2, va_rf v16]) bm_X0_comes q239 q240 (Nat.le_of_ble_eq_true rfl) dX0_carries_154 (mt_X0_comes (fx_k2i h (fun v17 σ18 h => ?_) (fun q σ' h => h.elim)))
    refine am_istore (L' := [(18, .int v17), (16, .int v10), (0, va_rf (some a0)), (2, va_rf x1), (4, va_rf x2), (6, .int x3), (8, va_rf x4), (10, .int x5), (12, va_rf x6), (14, .int x7)]) dX0_carries_157 (Nat.le_of_ble_eq_true rfl) rfl ?_
    refine am_aloadr (x := x6) dX0_carries_159 rfl ?_
    refine am_iload (x := x7) dX0_carries_161 rfl ?_
    refine am_iload (x := v10) dX0_carries_163 rfl ?_
    refine am_iconst (v := (-1)) dX0_carries_165 (by decide) ?_
    refine am_icmp_eq (tgt := 204) dX0_carries_166 (by decide) (fun c => ?_) (fun c => ?_)
    · have h := h.1 c
      refine am_iload (x := v17) dX0_carries_204 rfl ?_
      refine am_iconst (v := (-1)) dX0_carries_206 (by decide) ?_
      refine am_icmp_eq (tgt := 221) dX0_carries_207 (by decide) (fun c => ?_) (fun c => ?_)
      · have h := h.1 c
        refine am_aloadr_n (x := x2) dX0_carries_221 rfl rfl ?_
        refine am_iload (x := x5) dX0_carries_222 rfl ?_
        refine fx_ar (τ := 9) rfl rfl dX0_carries_224 h (fun v21 h => ?_)
        refine am_iload (x := x7) dX0_carries_225 rfl ?_
        refine fx_callV (Mc := m_X23_first) (as := [.int x7]) (cs := [21]) (r := v21) (f_clsC inf_X23 q274 f_cls0) bm_X23_first q272 q273 (Nat.le_of_ble_eq_true rfl) dX0_carries_227 h (fun b h => mt_X23_first (fx_k2i h (fun v22 σ23 h => ?_) (fun q σ' h => h.elim)))
        refine fx_si0 dX0_carries_230 h (fun σ26 h => ?_)
        refine am_iinc (x := x7) (v := (x7 + 1)) (L' := [(14, .int (x7 + 1)), (18, .int v17), (16, .int v10), (0, va_rf (some a0)), (2, va_rf x1), (4, va_rf x2), (6, .int x3), (8, va_rf x4), (10, .int x5), (12, va_rf x6)]) dX0_carries_231 rfl rfl (Nat.le_of_ble_eq_true rfl) rfl ?_
        refine am_goto (tgt := 110) dX0_carries_234 (by decide) ?_
        exact am_lss h rfl
      · have h := h.2 c
        refine am_aloadr (x := x4) dX0_carries_210 rfl ?_
        refine fx_gr (k := 2) (f_fldC (ref := "PondHouse$Creature") inf_X34 (by decide) q2255 (Or.inl rfl) f_fld0) dX0_carries_212 h (fun v27 h => ?_)
        refine am_iload (x := v17) dX0_carries_215 rfl ?_
        refine fx_ai0 dX0_carries_217 h (fun v28 h => ?_)
        refine am_goto (tgt := 230) dX0_carries_218 (by decide) ?_
        refine fx_si0 dX0_carries_230 h (fun σ29 h => ?_)
        refine am_iinc (x := x7) (v := (x7 + 1)) (L' := [(14, .int (x7 + 1)), (18, .int v17), (16, .int v10), (0, va_rf (some a0)), (2, va_rf x1), (4, va_rf x2), (6, .int x3), (8, va_rf x4), (10, .int x5), (12, va_rf x6)]) dX0_carries_231 rfl rfl (Nat.le_of_ble_eq_true rfl) rfl ?_
        refine am_goto (tgt := 110) dX0_carries_234 (by decide) ?_
        exact am_lss h rfl
    · have h := h.2 c
      refine am_aloadr_n (x := some a0) dX0_carries_169 rfl rfl ?_
      refine am_aloadr_n (x := x1) dX0_carries_170 rfl rfl ?_
      refine fx_gr (k := 0) (f_fldC (ref := "PondHouse$Patch") inf_X26 (by decide) q2216 (Or.inl rfl) f_fld0) dX0_carries_171 h (fun v30 h => ?_)
      refine am_iload (x := v10) dX0_carries_174 rfl ?_
      refine fx_callV (Mc := m_X7_get) (as := [.int v10]) (cs := [7]) (r := v30) (f_clsC inf_X7 q719 f_cls0) bm_X7_get q717 q718 (Nat.le_of_ble_eq_true rfl) dX0_carries_176 h (fun b h => mt_X7_get (fx_k2r h (fun v31 σ32 h => ?_) (fun q σ' h => h.elim)))
      refine fx_cc (cs := [26]) (f_clsC inf_X29 (Or.inl rfl) f_cls0) q967 dX0_carries_179 h (fun h => ?_)
      refine am_aloadr_n (x := x2) dX0_carries_182 rfl rfl ?_
      refine am_iload (x := x5) dX0_carries_183 rfl ?_
      refine fx_ar (τ := 9) rfl rfl dX0_carries_185 h (fun v35 h => ?_)
      refine am_iload (x := x7) dX0_carries_186 rfl ?_
      refine fx_callV (Mc := m_X23_field) (as := [.int x7]) (cs := [21]) (r := v35) (f_clsC inf_X23 q249 f_cls0) bm_X23_field q247 q248 (Nat.le_of_ble_eq_true rfl) dX0_carries_188 h (fun b h => mt_X23_field (fx_k2i h (fun v36 σ37 h => ?_) (fun q σ' h => h.elim)))
      refine fx_callV (Mc := m_X29_rule) (as := [.int v36]) (cs := [26]) (r := v31) (f_clsC inf_X29 q975 f_cls0) bm_X29_rule q973 q974 (Nat.le_of_ble_eq_true rfl) dX0_carries_191 h (fun b h => mt_X29_rule (fx_k2r h (fun v40 σ41 h => ?_) (fun q σ' h => h.elim)))
      refine am_aloadr (x := x4) dX0_carries_194 rfl ?_
      refine am_iload (x := v10) dX0_carries_196 rfl ?_
      refine fx_callVX (Mc := m_X0_ruled) (as := [va_rf v40, va_rf x4, .int v10]) (cs := [0]) (r := (some a0)) (f_clsC inf_X0 qs29 f_cls0) bm_X0_ruled q977 q979 (Nat.le_of_ble_eq_true rfl) dX0_carries_198 h (fun b h => mt_X0_ruled (fx_k2i h (fun v44 σ45 h => ?_) (fun q σ' h => am_xout (by decide +kernel) h)))
      refine am_goto (tgt := 230) dX0_carries_201 (by decide) ?_
      refine fx_si0 dX0_carries_230 h (fun σ48 h => ?_)
      refine am_iinc (x := x7) (v := (x7 + 1)) (L' := [(14, .int (x7 + 1)), (18, .int v17), (16, .int v10), (0, va_rf (some a0)), (2, va_rf x1), (4, va_rf x2), (6, .int x3), (8, va_rf x4), (10, .int x5), (12, va_rf x6)]) dX0_carries_231 rfl rfl (Nat.le_of_ble_eq_true rfl) rfl ?_
      refine am_goto (tgt := 110) dX0_carries_234 (by decide) ?_
      exact am_lss h rfl
theorem W_X0_ruling_f {G : am_G} {d : Nat} {a0 : Nat} {a1 : Option Nat} {a2 : Option Nat} {a3 : Int32} {σ : am_S} {Q : Int32 → am_S → Prop} (h : B_X0_ruling_6 G (d + 1) a0 a1 a2 a3 (-1) 0 σ Q) : W_X0_ruling G (d + 1) a0 a1 a2 a3 σ Q := by
  unfold W_X0_ruling
  refine am_iconst (v := (-1)) dX0_ruling_0 (by decide) ?_
  refine am_istore (L' := [(8, .int (-1)), (0, va_rf (some a0)), (2, va_rf a1), (4, va_rf a2), (6, .int a3)]) dX0_ruling_1 (Nat.le_of_ble_eq_true rfl) rfl ?_
  refine am_iconst (v := 0) dX0_ruling_3 (by decide) ?_
  refine am_istore (L' := [(10, .int 0), (8, .int (-1)), (0, va_rf (some a0)), (2, va_rf a1), (4, va_rf a2), (6, .int a3)]) dX0_ruling_4 (Nat.le_of_ble_eq_true rfl) rfl ?_
  exact am_lss h rfl
theorem B_X0_ruling_6_f {G : am_G} {d : Nat} {a0 : Nat} {x1 : Option Nat} {x2 : Option Nat} {x3 : Int32} {x4 : Int32} {x5 : Int32} {σ : am_S} {Q : Int32 → am_S → Prop} (h : f_gr σ x1 [24] 0 (fun v1 => f_o σ v1 [7] (fun b => W_X7_size G d b σ (fun v2 σ3 => ((v2 ≤ x5 → Q x4 σ3) ∧ (¬ v2 ≤ x5 → f_gr σ3 x1 [24] 0 (fun v6 => f_o σ3 v6 [7] (fun b => W_X7_get G d b x5 σ3 (fun v7 σ8 => f_k σ8 v7 [25, 26, 28, 29, 30] (f_is σ8 v7 [26] [25, 28, 29, 30] (fun v11 => ((v11 = 0 → B_X0_ruling_6 G (d + 1) a0 x1 x2 x3 x4 (x5 + 1) σ8 Q) ∧ (¬ v11 = 0 → f_gi σ8 v7 [25, 26, 28, 29, 30] 0 (fun v12 => f_o σ8 x2 [21] (fun b => W_X23_isUnder G d b v12 σ8 (fun v13 σ14 => ((v13 = 0 → B_X0_ruling_6 G (d + 1) a0 x1 x2 x3 x4 (x5 + 1) σ14 Q) ∧ (¬ v13 = 0 → f_k σ14 v7 [26] (f_o σ14 v7 [26] (fun b => W_X29_rule G d b x3 σ14 (fun v17 σ18 => ((v17 = none → B_X0_ruling_6 G (d + 1) a0 x1 x2 x3 x4 (x5 + 1) σ18 Q) ∧ (¬ v17 = none → B_X0_ruling_6 G (d + 1) a0 x1 x2 x3 x5 (x5 + 1) σ18 Q))))))))))))))))))))))) : B_X0_ruling_6 G (d + 1) a0 x1 x2 x3 x4 x5 σ Q := by
  unfold B_X0_ruling_6
  refine am_iload (x := x5) dX0_ruling_6 rfl ?_
  refine am_aloadr_n (x := x1) dX0_ruling_8 rfl rfl ?_
  refine fx_gr (k := 0) (f_fldC (ref := "PondHouse$Patch") inf_X26 (by decide) q2216 (Or.inl rfl) f_fld0) dX0_ruling_9 h (fun v1 h => ?_)
  refine fx_callV (Mc := m_X7_size) (as := []) (cs := [7]) (r := v1) (f_clsC inf_X7 q711 f_cls0) bm_X7_size q709 q710 (Nat.le_of_ble_eq_true rfl) dX0_ruling_12 h (fun b h => mt_X7_size (fx_k2i h (fun v2 σ3 h => ?_) (fun q σ' h => h.elim)))
  refine am_icmp_ge (tgt := 74) dX0_ruling_15 (by decide) (fun c => ?_) (fun c => ?_)
  · have h := h.1 c
    refine am_iload (x := x4) dX0_ruling_74 rfl ?_
    exact am_iret rfl dX0_ruling_76 h
  · have h := h.2 c
    refine am_aloadr_n (x := x1) dX0_ruling_18 rfl rfl ?_
    refine fx_gr (k := 0) (f_fldC (ref := "PondHouse$Patch") inf_X26 (by decide) q2216 (Or.inl rfl) f_fld0) dX0_ruling_19 h (fun v6 h => ?_)
    refine am_iload (x := x5) dX0_ruling_22 rfl ?_
    refine fx_callV (Mc := m_X7_get) (as := [.int x5]) (cs := [7]) (r := v6) (f_clsC inf_X7 q719 f_cls0) bm_X7_get q717 q718 (Nat.le_of_ble_eq_true rfl) dX0_ruling_24 h (fun b h => mt_X7_get (fx_k2r h (fun v7 σ8 h => ?_) (fun q σ' h => h.elim)))
    refine fx_cc (cs := [25, 26, 28, 29, 30]) (f_clsC inf_X28 (Or.inr q3083) (f_clsC inf_X29 (Or.inr q3084) (f_clsC inf_X31 (Or.inr q3085) (f_clsC inf_X32 (Or.inr q3086) (f_clsC inf_X33 (Or.inr q3082) f_cls0))))) q735 dX0_ruling_27 h (fun h => ?_)
    refine am_astore (x := v7) (L' := [(12, va_rf v7), (2, va_rf x1), (4, va_rf x2), (6, .int x3), (8, .int x4), (10, .int x5)]) dX0_ruling_30 (Nat.le_of_ble_eq_true rfl) rfl ?_
    refine am_aloadr (x := v7) dX0_ruling_32 rfl ?_
    refine fx_is (ys := [26]) (ns := [25, 28, 29, 30]) (f_clsC inf_X29 (Or.inl rfl) f_cls0) (f_clsC inf_X28 (by decide) (f_clsC inf_X31 (by decide) (f_clsC inf_X32 (by decide) (f_clsC inf_X33 (by decide) f_cls0)))) q967 dX0_ruling_34 h (fun v11 h => ?_)
    refine am_if_eq (tgt := 68) dX0_ruling_37 (by decide) (fun c => ?_) (fun c => ?_)
    · have h := h.1 c
      refine am_iinc (x := x5) (v := (x5 + 1)) (L' := [(10, .int (x5 + 1)), (12, va_rf v7), (2, va_rf x1), (4, va_rf x2), (6, .int x3), (8, .int x4)]) dX0_ruling_68 rfl rfl (Nat.le_of_ble_eq_true rfl) rfl ?_
      refine am_goto (tgt := 6) dX0_ruling_71 (by decide) ?_
      exact am_lss h rfl
    · have h := h.2 c
      refine am_aloadr_n (x := x2) dX0_ruling_40 rfl rfl ?_
      refine am_aloadr (x := v7) dX0_ruling_41 rfl ?_
      refine fx_gi (k := 0) (f_fldC (ref := "PondHouse$Change") inf_X28 (by decide) q2102 (Or.inl rfl) (f_fldC (ref := "PondHouse$Change") inf_X29 (by decide) q2102 (Or.inl rfl) (f_fldC (ref := "PondHouse$Change") inf_X31 (by decide) q2102 (Or.inl rfl) (f_fldC (ref := "PondHouse$Change") inf_X32 (by decide) q2102 (Or.inl rfl) (f_fldC (ref := "PondHouse$Change") inf_X33 (by decide) q2102 (Or.inl rfl) f_fld0))))) dX0_ruling_43 h (fun v12 h => ?_)
      refine fx_callV (Mc := m_X23_isUnder) (as := [.int v12]) (cs := [21]) (r := x2) (f_clsC inf_X23 q970 f_cls0) bm_X23_isUnder q968 q969 (Nat.le_of_ble_eq_true rfl) dX0_ruling_46 h (fun b h => mt_X23_isUnder (fx_k2i h (fun v13 σ14 h => ?_) (fun q σ' h => h.elim)))
      refine am_if_eq (tgt := 68) dX0_ruling_49 (by decide) (fun c => ?_) (fun c => ?_)
      · have h := h.1 c
        refine am_iinc (x := x5) (v := (x5 + 1)) (L' := [(10, .int (x5 + 1)), (12, va_rf v7), (2, va_rf x1), (4, va_rf x2), (6, .int x3), (8, .int x4)]) dX0_ruling_68 rfl rfl (Nat.le_of_ble_eq_true rfl) rfl ?_
        refine am_goto (tgt := 6) dX0_ruling_71 (by decide) ?_
        exact am_lss h rfl
      · have h := h.2 c
        refine am_aloadr (x := v7) dX0_ruling_52 rfl ?_
        refine fx_cc (cs := [26]) (f_clsC inf_X29 (Or.inl rfl) f_cls0) q967 dX0_ruling_54 h (fun h => ?_)
        refine am_iload_n (x := x3) dX0_ruling_57 rfl rfl ?_
        refine fx_callV (Mc := m_X29_rule) (as := [.int x3]) (cs := [26]) (r := v7) (f_clsC inf_X29 q975 f_cls0) bm_X29_rule q973 q974 (Nat.le_of_ble_eq_true rfl) dX0_ruling_58 h (fun b h => mt_X29_rule (fx_k2r h (fun v17 σ18 h => ?_) (fun q σ' h => h.elim)))
        refine am_ifnullr (tgt := 68) dX0_ruling_61 (by decide) (fun c => ?_) (fun c => ?_)
        · have h := h.1 c
          refine am_iinc (x := x5) (v := (x5 + 1)) (L' := [(10, .int (x5 + 1)), (12, va_rf v7), (2, va_rf x1), (4, va_rf x2), (6, .int x3), (8, .int x4)]) dX0_ruling_68 rfl rfl (Nat.le_of_ble_eq_true rfl) rfl ?_
          refine am_goto (tgt := 6) dX0_ruling_71 (by decide) ?_
          exact am_lss h rfl
        · have h := h.2 c
          refine am_iload (x := x5) dX0_ruling_64 rfl ?_
          refine am_istore (L' := [(8, .int x5), (12, va_rf v7), (2, va_rf x1), (4, va_rf x2), (6, .int x3), (10, .int x5)]) dX0_ruling_66 (Nat.le_of_ble_eq_true rfl) rfl ?_
          refine am_iinc (x := x5) (v := (x5 + 1)) (L' := [(10, .int (x5 + 1)), (8, .int x5), (12, va_rf v7), (2, va_rf x1), (4, va_rf x2), (6, .int x3)]) dX0_ruling_68 rfl rfl (Nat.le_of_ble_eq_true rfl) rfl ?_
          refine am_goto (tgt := 6) dX0_ruling_71 (by decide) ?_
          exact am_lss h rfl
theorem W_X0_ruled_f {G : am_G} {d : Nat} {a0 : Nat} {a1 : Option Nat} {a2 : Option Nat} {a3 : Int32} {σ : am_S} {Q : Int32 → am_S → Prop} {E : Nat → am_S → Prop} (h : f_gr σ (some a0) [0] 8 (fun v1 => f_o σ v1 [1] (fun b => W_X1_begins G d b a2 none 0 σ (fun v2 σ3 => f_nn a1 (fun b => V_X13_of G d b v2 σ3 (fun v6 σ7 => Q v6 σ7) (fun q9 σ8 => f_o σ8 (some q9) [2] (fun _ => B_X0_ruled_15 G (d + 1) a0 a2 a3 (some q9) σ8 Q E))))))) : W_X0_ruled G (d + 1) a0 a1 a2 a3 σ Q E := by
  unfold W_X0_ruled
  refine am_aloadr_n (x := a1) dX0_ruled_0 rfl rfl ?_
  refine am_aloadr_n (x := some a0) dX0_ruled_1 rfl rfl ?_
  refine fx_gr (k := 8) (f_fldC (ref := "PondHouse") inf_X0 (by decide) q1246 (Or.inl rfl) f_fld0) dX0_ruled_2 h (fun v1 h => ?_)
  refine am_aloadr_n (x := a2) dX0_ruled_5 rfl rfl ?_
  refine am_null dX0_ruled_6 ?_
  refine am_iconst (v := 0) dX0_ruled_7 (by decide) ?_
  refine fx_callV (Mc := m_X1_begins) (as := [va_rf a2, va_rf none, .int 0]) (cs := [1]) (r := v1) (f_clsC inf_X1 q336 f_cls0) bm_X1_begins q334 q335 (Nat.le_of_ble_eq_true rfl) dX0_ruled_8 h (fun b h => mt_X1_begins (fx_k2r h (fun v2 σ3 h => ?_) (fun q σ' h => h.elim)))
  refine fv_X13_of q981 dX0_ruled_11 (Nat.le_of_ble_eq_true rfl) h (fun v6 σ7 h => ?_) (fun q σ' h => ?_)
  · exact am_iret rfl dX0_ruled_14 h
  · refine fx_catch [] [] { startPc := 0, endPc := 14, handlerPc := 15, catchType := 56 } inf_X2 (by decide +kernel) (by decide +kernel) (by decide +kernel) (by decide) q393 (Or.inr rfl) h (fun h => ?_)
    exact am_lss h rfl
theorem B_X0_ruled_15_f {G : am_G} {d : Nat} {a0 : Nat} {x2 : Option Nat} {x3 : Int32} {s0 : Option Nat} {σ : am_S} {Q : Int32 → am_S → Prop} {E : Nat → am_S → Prop} (h : f_gi σ x2 [31] 0 (fun v1 => f_o σ (some a0) [0] (fun b => W_X0_refuses G d b 9 x3 v1 σ (fun v2 σ3 => f_o σ3 v2 [5] (fun q => E q σ3))))) : B_X0_ruled_15 G (d + 1) a0 x2 x3 s0 σ Q E := by
  unfold B_X0_ruled_15
  refine am_astore (x := s0) (L' := [(8, va_rf s0), (0, va_rf (some a0)), (4, va_rf x2), (6, .int x3)]) dX0_ruled_15 (Nat.le_of_ble_eq_true rfl) rfl ?_
  refine am_aloadr_n (x := some a0) dX0_ruled_17 rfl rfl ?_
  refine am_bipush (v := 9) dX0_ruled_18 (by decide) ?_
  refine am_iload_n (x := x3) dX0_ruled_20 rfl rfl ?_
  refine am_aloadr_n (x := x2) dX0_ruled_21 rfl rfl ?_
  refine fx_gi (k := 0) (f_fldC (ref := "PondHouse$Creature") inf_X34 (by decide) q2250 (Or.inl rfl) f_fld0) dX0_ruled_22 h (fun v1 h => ?_)
  refine fx_callV (Mc := m_X0_refuses) (as := [.int 9, .int x3, .int v1]) (cs := [0]) (r := (some a0)) (f_clsC inf_X0 qs23 f_cls0) bm_X0_refuses q958 q753 (Nat.le_of_ble_eq_true rfl) dX0_ruled_25 h (fun b h => mt_X0_refuses (fx_k2r h (fun v2 σ3 h => ?_) (fun q σ' h => h.elim)))
  exact fx_throw (cs := [5]) dX0_ruled_28 h (fun q h => am_xout (by decide +kernel) h)
theorem W_X0_goesOver_f {G : am_G} {d : Nat} {a0 : Nat} {a1 : Option Nat} {σ : am_S} {Q : am_S → Prop} (h : B_X0_goesOver_2 G (d + 1) a0 a1 0 σ Q) : W_X0_goesOver G (d + 1) a0 a1 σ Q := by
  unfold W_X0_goesOver
  refine am_iconst (v := 0) dX0_goesOver_0 (by decide) ?_
  refine am_istore_n (L' := [(4, .int 0), (0, va_rf (some a0)), (2, va_rf a1)]) dX0_goesOver_1 rfl (Nat.le_of_ble_eq_true rfl) rfl ?_
  exact am_lss h rfl
theorem B_X0_goesOver_2_f {G : am_G} {d : Nat} {a0 : Nat} {x1 : Option Nat} {x2 : Int32} {σ : am_S} {Q : am_S → Prop} (h : f_gi σ (some a0) [0] 6 (fun v1 => ((v1 ≤ x2 → f_gr σ (some a0) [0] 4 (fun v2 => W_X0_fixedOf_2 G d x1 v2 σ (fun v3 σ4 => f_p σ4 (some a0) [0] 4 (va_rf v3) (fun σ7 => f_p σ7 (some a0) [0] 3 (va_rf x1) (fun σ8 => Q σ8))))) ∧ (¬ v1 ≤ x2 → f_gr σ (some a0) [0] 5 (fun v9 => f_ar σ v9 12 x2 (fun v10 => f_gr σ v10 [31] 3 (fun v11 => f_gr σ (some a0) [0] 28 (fun v12 => f_ar σ v12 17 x2 (fun v13 => f_cpi σ v11 0 v13 0 40 0 .int (fun σ14 => f_gr σ14 v10 [31] 4 (fun v15 => f_gr σ14 (some a0) [0] 29 (fun v16 => f_ar σ14 v16 18 x2 (fun v17 => f_cpi σ14 v15 0 v17 0 40 3 .boolean (fun σ18 => f_gr σ18 v10 [31] 1 (fun v19 => f_gr σ18 v10 [31] 2 (fun v20 => ((v19 = none → B_X0_goesOver_100 G (d + 1) a0 x1 x2 v10 v19 v20 σ18 Q) ∧ (¬ v19 = none → f_gr σ18 (some a0) [0] 30 (fun v21 => f_ar σ18 v21 9 x2 (fun v22 => ((v22 = none → B_X0_goesOver_100 G (d + 1) a0 x1 x2 v10 v19 v20 σ18 Q) ∧ (¬ v22 = none → f_gr σ18 (some a0) [0] 30 (fun v23 => f_ar σ18 v23 9 x2 (fun v24 => ((v24 = v19 → B_X0_goesOver_100 G (d + 1) a0 x1 x2 v10 v19 v20 σ18 Q) ∧ (¬ v24 = v19 → f_gr σ18 (some a0) [0] 30 (fun v25 => f_ar σ18 v25 9 x2 (fun v26 => f_o σ18 (some a0) [0] (fun b => W_X0_loses G d b v10 v26 x1 σ18 (fun σ28 => B_X0_goesOver_100 G (d + 1) a0 x1 x2 v10 v19 v20 σ28 Q)))))))))))))))))))))))))))))) : B_X0_goesOver_2 G (d + 1) a0 x1 x2 σ Q := by
  unfold B_X0_goesOver_2
  refine am_iload_n (x := x2) dX0_goesOver_2 rfl rfl ?_
  refine am_aloadr_n (x := some a0) dX0_goesOver_3 rfl rfl ?_
  refine fx_gi (k := 6) (f_fldC (ref := "PondHouse") inf_X0 (by decide) q1243 (Or.inl rfl) f_fld0) dX0_goesOver_4 h (fun v1 h => ?_)
  refine am_icmp_ge (tgt := 142) dX0_goesOver_7 (by decide) (fun c => ?_) (fun c => ?_)
  · have h := h.1 c
    refine am_aloadr_n (x := some a0) dX0_goesOver_142 rfl rfl ?_
    refine am_aloadr_n (x := x1) dX0_goesOver_143 rfl rfl ?_
    refine am_aloadr_n (x := some a0) dX0_goesOver_144 rfl rfl ?_
    refine fx_gr (k := 4) (f_fldC (ref := "PondHouse") inf_X0 (by decide) q1241 (Or.inl rfl) f_fld0) dX0_goesOver_145 h (fun v2 h => ?_)
    refine fx_callS (Mc := m_X0_fixedOf_2) (as := [va_rf x1, va_rf v2]) bm_X0_fixedOf_2 q995 q996 (Nat.le_of_ble_eq_true rfl) dX0_goesOver_148 (mt_X0_fixedOf_2 (fx_k2r h (fun v3 σ4 h => ?_) (fun q σ' h => h.elim)))
    refine fx_p (k := 4) (v := va_rf v3) (f_putC inf_X0 (by decide) (f_nra _ _) (f_fra _ _) q1241 (Or.inl rfl) f_put0) dX0_goesOver_151 h (fun σ7 h => ?_)
    refine am_aloadr_n (x := some a0) dX0_goesOver_154 rfl rfl ?_
    refine am_aloadr_n (x := x1) dX0_goesOver_155 rfl rfl ?_
    refine fx_p (k := 3) (v := va_rf x1) (f_putC inf_X0 (by decide) (f_nra _ _) (f_fra _ _) q1240 (Or.inl rfl) f_put0) dX0_goesOver_156 h (fun σ8 h => ?_)
    exact am_vret rfl dX0_goesOver_159 h
  · have h := h.2 c
    refine am_aloadr_n (x := some a0) dX0_goesOver_10 rfl rfl ?_
    refine fx_gr (k := 5) (f_fldC (ref := "PondHouse") inf_X0 (by decide) q1242 (Or.inl rfl) f_fld0) dX0_goesOver_11 h (fun v9 h => ?_)
    refine am_iload_n (x := x2) dX0_goesOver_14 rfl rfl ?_
    refine fx_ar (τ := 12) rfl rfl dX0_goesOver_15 h (fun v10 h => ?_)
    refine am_astore_n (x := v10) (L' := [(6, va_rf v10), (0, va_rf (some a0)), (2, va_rf x1), (4, .int x2)]) dX0_goesOver_16 rfl (Nat.le_of_ble_eq_true rfl) rfl ?_
    refine am_aloadr_n (x := v10) dX0_goesOver_17 rfl rfl ?_
    refine fx_gr (k := 3) (f_fldN (ref := "PondHouse$Creature") inf_X34 (by decide) q2257 rfl f_fld0) dX0_goesOver_18 h (fun v11 h => ?_)
    refine am_iconst (v := 0) dX0_goesOver_21 (by decide) ?_
    refine am_aloadr_n (x := some a0) dX0_goesOver_22 rfl rfl ?_
    refine fx_gr (k := 28) (f_fldC (ref := "PondHouse") inf_X0 (by decide) q1268 (Or.inl rfl) f_fld0) dX0_goesOver_23 h (fun v12 h => ?_)
    refine am_iload_n (x := x2) dX0_goesOver_26 rfl rfl ?_
    refine fx_ar (τ := 17) rfl rfl dX0_goesOver_27 h (fun v13 h => ?_)
    refine am_iconst (v := 0) dX0_goesOver_28 (by decide) ?_
    refine am_bipush (v := 40) dX0_goesOver_29 (by decide) ?_
    refine fx_cpi (τ := 0) q986 q623 q622 q177 rfl rfl (Nat.le_of_ble_eq_true rfl) dX0_goesOver_31 h (fun σ14 h => ?_)
    refine am_aloadr_n (x := v10) dX0_goesOver_34 rfl rfl ?_
    refine fx_gr (k := 4) (f_fldN (ref := "PondHouse$Creature") inf_X34 (by decide) q2259 rfl f_fld0) dX0_goesOver_35 h (fun v15 h => ?_)
    refine am_iconst (v := 0) dX0_goesOver_38 (by decide) ?_
    refine am_aloadr_n (x := some a0) dX0_goesOver_39 rfl rfl ?_
    refine fx_gr (k := 29) (f_fldC (ref := "PondHouse") inf_X0 (by decide) q1269 (Or.inl rfl) f_fld0) dX0_goesOver_40 h (fun v16 h => ?_)
    refine am_iload_n (x := x2) dX0_goesOver_43 rfl rfl ?_
    refine fx_ar (τ := 18) rfl rfl dX0_goesOver_44 h (fun v17 h => ?_)
    refine am_iconst (v := 0) dX0_goesOver_45 (by decide) ?_
    refine am_bipush (v := 40) dX0_goesOver_46 (by decide) ?_
    refine fx_cpi (τ := 3) q986 q623 q622 q177 rfl rfl (Nat.le_of_ble_eq_true rfl) dX0_goesOver_48 h (fun σ18 h => ?_)
    refine am_aloadr_n (x := v10) dX0_goesOver_51 rfl rfl ?_
    refine fx_gr (k := 1) (f_fldC (ref := "PondHouse$Creature") inf_X34 (by decide) q2253 (Or.inl rfl) f_fld0) dX0_goesOver_52 h (fun v19 h => ?_)
    refine am_astore (x := v19) (L' := [(8, va_rf v19), (6, va_rf v10), (0, va_rf (some a0)), (2, va_rf x1), (4, .int x2)]) dX0_goesOver_55 (Nat.le_of_ble_eq_true rfl) rfl ?_
    refine am_aloadr_n (x := v10) dX0_goesOver_57 rfl rfl ?_
    refine fx_gr (k := 2) (f_fldC (ref := "PondHouse$Creature") inf_X34 (by decide) q2255 (Or.inl rfl) f_fld0) dX0_goesOver_58 h (fun v20 h => ?_)
    refine am_astore (x := v20) (L' := [(10, va_rf v20), (8, va_rf v19), (6, va_rf v10), (0, va_rf (some a0)), (2, va_rf x1), (4, .int x2)]) dX0_goesOver_61 (Nat.le_of_ble_eq_true rfl) rfl ?_
    refine am_aloadr (x := v19) dX0_goesOver_63 rfl ?_
    refine am_ifnullr (tgt := 100) dX0_goesOver_65 (by decide) (fun c => ?_) (fun c => ?_)
    · have h := h.1 c
      exact am_lss h rfl
    · have h := h.2 c
      refine am_aloadr_n (x := some a0) dX0_goesOver_68 rfl rfl ?_
      refine fx_gr (k := 30) (f_fldC (ref := "PondHouse") inf_X0 (by decide) q1270 (Or.inl rfl) f_fld0) dX0_goesOver_69 h (fun v21 h => ?_)
      refine am_iload_n (x := x2) dX0_goesOver_72 rfl rfl ?_
      refine fx_ar (τ := 9) rfl rfl dX0_goesOver_73 h (fun v22 h => ?_)
      refine am_ifnullr (tgt := 100) dX0_goesOver_74 (by decide) (fun c => ?_) (fun c => ?_)
      · have h := h.1 c
        exact am_lss h rfl
      · have h := h.2 c
        refine am_aloadr_n (x := some a0) dX0_goesOver_77 rfl rfl ?_
        refine fx_gr (k := 30) (f_fldC (ref := "PondHouse") inf_X0 (by decide) q1270 (Or.inl rfl) f_fld0) dX0_goesOver_78 h (fun v23 h => ?_)
        refine am_iload_n (x := x2) dX0_goesOver_81 rfl rfl ?_
        refine fx_ar (τ := 9) rfl rfl dX0_goesOver_82 h (fun v24 h => ?_)
        refine am_aloadr (x := v19) dX0_goesOver_83 rfl ?_
        refine am_acmp_eq (rx := v24) (ry := v19) (tgt := 100) dX0_goesOver_85 (by decide) (fun c => ?_) (fun c => ?_)
        · have h := h.1 c
          exact am_lss h rfl
        · have h := h.2 c
          refine am_aloadr_n (x := some a0) dX0_goesOver_88 rfl rfl ?_
          refine am_aloadr_n (x := v10) dX0_goesOver_89 rfl rfl ?_
          refine am_aloadr_n (x := some a0) dX0_goesOver_90 rfl rfl ?_
          refine fx_gr (k := 30) (f_fldC (ref := "PondHouse") inf_X0 (by decide) q1270 (Or.inl rfl) f_fld0) dX0_goesOver_91 h (fun v25 h => ?_)
          refine am_iload_n (x := x2) dX0_goesOver_94 rfl rfl ?_
          refine fx_ar (τ := 9) rfl rfl dX0_goesOver_95 h (fun v26 h => ?_)
          refine am_aloadr_n (x := x1) dX0_goesOver_96 rfl rfl ?_
          refine fx_callV (Mc := m_X0_loses) (as := [va_rf v10, va_rf v26, va_rf x1]) (cs := [0]) (r := (some a0)) (f_clsC inf_X0 qs31 f_cls0) bm_X0_loses q987 q989 (Nat.le_of_ble_eq_true rfl) dX0_goesOver_97 h (fun b h => mt_X0_loses (fx_k2v h (fun σ28 h => ?_) (fun q σ' h => h.elim)))
          exact am_lss h rfl
theorem B_X0_goesOver_100_f {G : am_G} {d : Nat} {a0 : Nat} {x1 : Option Nat} {x2 : Int32} {x3 : Option Nat} {x4 : Option Nat} {x5 : Option Nat} {σ : am_S} {Q : am_S → Prop} (h : f_gr σ (some a0) [0] 30 (fun v1 => f_ar σ v1 9 x2 (fun v2 => f_p σ x3 [31] 1 (va_rf v2) (fun σ3 => f_gr σ3 (some a0) [0] 31 (fun v4 => f_ar σ3 v4 17 x2 (fun v5 => f_p σ3 x3 [31] 2 (va_rf v5) (fun σ6 => f_gr σ6 (some a0) [0] 30 (fun v7 => f_sr σ6 v7 9 [21] x2 x4 (fun σ8 => f_gr σ8 (some a0) [0] 31 (fun v9 => f_sA σ8 v9 17 0 x2 x5 (fun σ10 => B_X0_goesOver_2 G (d + 1) a0 x1 (x2 + 1) σ10 Q))))))))))) : B_X0_goesOver_100 G (d + 1) a0 x1 x2 x3 x4 x5 σ Q := by
  unfold B_X0_goesOver_100
  refine am_aloadr_n (x := x3) dX0_goesOver_100 rfl rfl ?_
  refine am_aloadr_n (x := some a0) dX0_goesOver_101 rfl rfl ?_
  refine fx_gr (k := 30) (f_fldC (ref := "PondHouse") inf_X0 (by decide) q1270 (Or.inl rfl) f_fld0) dX0_goesOver_102 h (fun v1 h => ?_)
  refine am_iload_n (x := x2) dX0_goesOver_105 rfl rfl ?_
  refine fx_ar (τ := 9) rfl rfl dX0_goesOver_106 h (fun v2 h => ?_)
  refine fx_p (k := 1) (v := va_rf v2) (f_putC inf_X34 (by decide) (f_nrf _ _) (f_frf _ _) q2253 (Or.inl rfl) f_put0) dX0_goesOver_107 h (fun σ3 h => ?_)
  refine am_aloadr_n (x := x3) dX0_goesOver_110 rfl rfl ?_
  refine am_aloadr_n (x := some a0) dX0_goesOver_111 rfl rfl ?_
  refine fx_gr (k := 31) (f_fldC (ref := "PondHouse") inf_X0 (by decide) q1271 (Or.inl rfl) f_fld0) dX0_goesOver_112 h (fun v4 h => ?_)
  refine am_iload_n (x := x2) dX0_goesOver_115 rfl rfl ?_
  refine fx_ar (τ := 17) rfl rfl dX0_goesOver_116 h (fun v5 h => ?_)
  refine fx_p (k := 2) (v := va_rf v5) (f_putC inf_X34 (by decide) (f_nra _ _) (f_fra _ _) q2255 (Or.inl rfl) f_put0) dX0_goesOver_117 h (fun σ6 h => ?_)
  refine am_aloadr_n (x := some a0) dX0_goesOver_120 rfl rfl ?_
  refine fx_gr (k := 30) (f_fldC (ref := "PondHouse") inf_X0 (by decide) q1270 (Or.inl rfl) f_fld0) dX0_goesOver_121 h (fun v7 h => ?_)
  refine am_iload_n (x := x2) dX0_goesOver_124 rfl rfl ?_
  refine am_aloadr (x := x4) dX0_goesOver_125 rfl ?_
  refine fx_sr (τ := 9) (E := "PondHouse$Kind") (cs := [21]) (v := x4) rfl (f_clsC inf_X23 (Or.inl rfl) f_cls0) dX0_goesOver_127 h (fun σ8 h => ?_)
  refine am_aloadr_n (x := some a0) dX0_goesOver_128 rfl rfl ?_
  refine fx_gr (k := 31) (f_fldC (ref := "PondHouse") inf_X0 (by decide) q1271 (Or.inl rfl) f_fld0) dX0_goesOver_129 h (fun v9 h => ?_)
  refine am_iload_n (x := x2) dX0_goesOver_132 rfl rfl ?_
  refine am_aloadr (x := x5) dX0_goesOver_133 rfl ?_
  refine fx_sA (τ := 17) (t := 0) (ty := .int) dX0_goesOver_135 rfl rfl q1231 (fun s h => h) (fun s h => h) h (fun σ10 h => ?_)
  refine am_iinc (x := x2) (v := (x2 + 1)) (L' := [(4, .int (x2 + 1)), (0, va_rf (some a0)), (2, va_rf x1), (6, va_rf x3), (8, va_rf x4), (10, va_rf x5)]) dX0_goesOver_136 rfl rfl (Nat.le_of_ble_eq_true rfl) rfl ?_
  refine am_goto (tgt := 2) dX0_goesOver_139 (by decide) ?_
  exact am_lss h rfl
theorem W_X0_loses_f {G : am_G} {d : Nat} {a0 : Nat} {a1 : Option Nat} {a2 : Option Nat} {a3 : Option Nat} {σ : am_S} {Q : am_S → Prop} (h : f_gr σ a1 [31] 2 (fun v1 => f_al σ v1 0 (fun v2 => f_na G σ 3 f_a0i v2 (fun n3 σ4 => B_X0_loses_12 G (d + 1) a0 a1 a2 a3 (some n3) 0 σ4 Q)))) : W_X0_loses G (d + 1) a0 a1 a2 a3 σ Q := by
  unfold W_X0_loses
  refine am_aloadr_n (x := a1) dX0_loses_0 rfl rfl ?_
  refine fx_gr (k := 2) (f_fldC (ref := "PondHouse$Creature") inf_X34 (by decide) q2255 (Or.inl rfl) f_fld0) dX0_loses_1 h (fun v1 h => ?_)
  refine fx_al (τ := 0) rfl dX0_loses_4 h (fun v2 h => ?_)
  refine fx_nai (atype := .boolean) (τ := 3) q282 rfl (fun N cA => rfl) dX0_loses_5 h (fun n3 σ4 h => ?_)
  refine am_astore (x := (some n3)) (L' := [(8, va_rf (some n3)), (0, va_rf (some a0)), (2, va_rf a1), (4, va_rf a2), (6, va_rf a3)]) dX0_loses_7 (Nat.le_of_ble_eq_true rfl) rfl ?_
  refine am_iconst (v := 0) dX0_loses_9 (by decide) ?_
  refine am_istore (L' := [(10, .int 0), (8, va_rf (some n3)), (0, va_rf (some a0)), (2, va_rf a1), (4, va_rf a2), (6, va_rf a3)]) dX0_loses_10 (Nat.le_of_ble_eq_true rfl) rfl ?_
  exact am_lss h rfl
theorem B_X0_loses_12_f {G : am_G} {d : Nat} {a0 : Nat} {x1 : Option Nat} {x2 : Option Nat} {x3 : Option Nat} {x4 : Option Nat} {x5 : Int32} {σ : am_S} {Q : am_S → Prop} (h : f_o σ x2 [21] (fun b => W_X23_all G d b σ (fun v1 σ2 => ((v1 ≤ x5 → B_X0_loses_59 G (d + 1) a0 x1 x4 0 σ2 Q) ∧ (¬ v1 ≤ x5 → f_gr σ2 x1 [31] 1 (fun v5 => f_gr σ2 (some a0) [0] 3 (fun v6 => W_X0_comes G d x2 x5 v5 x3 v6 σ2 (fun v7 σ8 => ((v7 = (-1) → B_X0_loses_12 G (d + 1) a0 x1 x2 x3 x4 (x5 + 1) σ8 Q) ∧ (¬ v7 = (-1) → f_si σ8 x4 3 v7 1 (fun σ11 => B_X0_loses_12 G (d + 1) a0 x1 x2 x3 x4 (x5 + 1) σ11 Q))))))))))) : B_X0_loses_12 G (d + 1) a0 x1 x2 x3 x4 x5 σ Q := by
  unfold B_X0_loses_12
  refine am_iload (x := x5) dX0_loses_12 rfl ?_
  refine am_aloadr_n (x := x2) dX0_loses_14 rfl rfl ?_
  refine fx_callV (Mc := m_X23_all) (as := []) (cs := [21]) (r := x2) (f_clsC inf_X23 q236 f_cls0) bm_X23_all q234 q235 (Nat.le_of_ble_eq_true rfl) dX0_loses_15 h (fun b h => mt_X23_all (fx_k2i h (fun v1 σ2 h => ?_) (fun q σ' h => h.elim)))
  refine am_icmp_ge (tgt := 56) dX0_loses_18 (by decide) (fun c => ?_) (fun c => ?_)
  · have h := h.1 c
    refine am_iconst (v := 0) dX0_loses_56 (by decide) ?_
    refine am_istore (L' := [(10, .int 0), (0, va_rf (some a0)), (2, va_rf x1), (4, va_rf x2), (6, va_rf x3), (8, va_rf x4)]) dX0_loses_57 (Nat.le_of_ble_eq_true rfl) rfl ?_
    exact am_lss h rfl
  · have h := h.2 c
    refine am_aloadr_n (x := x2) dX0_loses_21 rfl rfl ?_
    refine am_iload (x := x5) dX0_loses_22 rfl ?_
    refine am_aloadr_n (x := x1) dX0_loses_24 rfl rfl ?_
    refine fx_gr (k := 1) (f_fldC (ref := "PondHouse$Creature") inf_X34 (by decide) q2253 (Or.inl rfl) f_fld0) dX0_loses_25 h (fun v5 h => ?_)
    refine am_aloadr_n (x := x3) dX0_loses_28 rfl rfl ?_
    refine am_aloadr_n (x := some a0) dX0_loses_29 rfl rfl ?_
    refine fx_gr (k := 3) (f_fldC (ref := "PondHouse") inf_X0 (by decide) q1240 (Or.inl rfl) f_fld0) dX0_loses_30 h (fun v6 h => ?_)
    refine fx_callS (Mc := m_X0_comes) (as := [va_rf x2, .int x5, va_rf v5, va_rf x3, va_rf v6]) bm_X0_comes q239 q240 (Nat.le_of_ble_eq_true rfl) dX0_loses_33 (mt_X0_comes (fx_k2i h (fun v7 σ8 h => ?_) (fun q σ' h => h.elim)))
    refine am_istore (L' := [(12, .int v7), (0, va_rf (some a0)), (2, va_rf x1), (4, va_rf x2), (6, va_rf x3), (8, va_rf x4), (10, .int x5)]) dX0_loses_36 (Nat.le_of_ble_eq_true rfl) rfl ?_
    refine am_iload (x := v7) dX0_loses_38 rfl ?_
    refine am_iconst (v := (-1)) dX0_loses_40 (by decide) ?_
    refine am_icmp_eq (tgt := 50) dX0_loses_41 (by decide) (fun c => ?_) (fun c => ?_)
    · have h := h.1 c
      refine am_iinc (x := x5) (v := (x5 + 1)) (L' := [(10, .int (x5 + 1)), (12, .int v7), (0, va_rf (some a0)), (2, va_rf x1), (4, va_rf x2), (6, va_rf x3), (8, va_rf x4)]) dX0_loses_50 rfl rfl (Nat.le_of_ble_eq_true rfl) rfl ?_
      refine am_goto (tgt := 12) dX0_loses_53 (by decide) ?_
      exact am_lss h rfl
    · have h := h.2 c
      refine am_aloadr (x := x4) dX0_loses_44 rfl ?_
      refine am_iload (x := v7) dX0_loses_46 rfl ?_
      refine am_iconst (v := 1) dX0_loses_48 (by decide) ?_
      refine fx_si3 dX0_loses_49 h (fun σ11 h => ?_)
      refine am_iinc (x := x5) (v := (x5 + 1)) (L' := [(10, .int (x5 + 1)), (12, .int v7), (0, va_rf (some a0)), (2, va_rf x1), (4, va_rf x2), (6, va_rf x3), (8, va_rf x4)]) dX0_loses_50 rfl rfl (Nat.le_of_ble_eq_true rfl) rfl ?_
      refine am_goto (tgt := 12) dX0_loses_53 (by decide) ?_
      exact am_lss h rfl
theorem B_X0_loses_59_f {G : am_G} {d : Nat} {a0 : Nat} {x1 : Option Nat} {x4 : Option Nat} {x5 : Int32} {σ : am_S} {Q : am_S → Prop} (h : f_al σ x4 3 (fun v1 => ((v1 ≤ x5 → Q σ) ∧ (¬ v1 ≤ x5 → f_ai σ x4 3 x5 (fun v2 => ((¬ v2 = 0 → B_X0_loses_59 G (d + 1) a0 x1 x4 (x5 + 1) σ Q) ∧ (v2 = 0 → f_gr σ x1 [31] 1 (fun v3 => f_o σ v3 [21] (fun b => W_X23_field G d b x5 σ (fun v4 σ5 => f_gr σ5 x1 [31] 2 (fun v8 => f_ai σ5 v8 0 x5 (fun v9 => f_o σ5 x1 [31] (fun b => W_X34_loses G d b v4 v9 σ5 (fun σ11 => B_X0_loses_59 G (d + 1) a0 x1 x4 (x5 + 1) σ11 Q)))))))))))))) : B_X0_loses_59 G (d + 1) a0 x1 x4 x5 σ Q := by
  unfold B_X0_loses_59
  refine am_iload (x := x5) dX0_loses_59 rfl ?_
  refine am_aloadr (x := x4) dX0_loses_61 rfl ?_
  refine fx_al (τ := 3) rfl dX0_loses_63 h (fun v1 h => ?_)
  refine am_icmp_ge (tgt := 101) dX0_loses_64 (by decide) (fun c => ?_) (fun c => ?_)
  · have h := h.1 c
    exact am_vret rfl dX0_loses_101 h
  · have h := h.2 c
    refine am_aloadr (x := x4) dX0_loses_67 rfl ?_
    refine am_iload (x := x5) dX0_loses_69 rfl ?_
    refine fx_ai3 dX0_loses_71 h (fun v2 h => ?_)
    refine am_if_ne (tgt := 95) dX0_loses_72 (by decide) (fun c => ?_) (fun c => ?_)
    · have h := h.1 c
      refine am_iinc (x := x5) (v := (x5 + 1)) (L' := [(10, .int (x5 + 1)), (2, va_rf x1), (8, va_rf x4)]) dX0_loses_95 rfl rfl (Nat.le_of_ble_eq_true rfl) rfl ?_
      refine am_goto (tgt := 59) dX0_loses_98 (by decide) ?_
      exact am_lss h rfl
    · have h := h.2 c
      refine am_aloadr_n (x := x1) dX0_loses_75 rfl rfl ?_
      refine am_aloadr_n (x := x1) dX0_loses_76 rfl rfl ?_
      refine fx_gr (k := 1) (f_fldC (ref := "PondHouse$Creature") inf_X34 (by decide) q2253 (Or.inl rfl) f_fld0) dX0_loses_77 h (fun v3 h => ?_)
      refine am_iload (x := x5) dX0_loses_80 rfl ?_
      refine fx_callV (Mc := m_X23_field) (as := [.int x5]) (cs := [21]) (r := v3) (f_clsC inf_X23 q249 f_cls0) bm_X23_field q247 q248 (Nat.le_of_ble_eq_true rfl) dX0_loses_82 h (fun b h => mt_X23_field (fx_k2i h (fun v4 σ5 h => ?_) (fun q σ' h => h.elim)))
      refine am_aloadr_n (x := x1) dX0_loses_85 rfl rfl ?_
      refine fx_gr (k := 2) (f_fldC (ref := "PondHouse$Creature") inf_X34 (by decide) q2255 (Or.inl rfl) f_fld0) dX0_loses_86 h (fun v8 h => ?_)
      refine am_iload (x := x5) dX0_loses_89 rfl ?_
      refine fx_ai0 dX0_loses_91 h (fun v9 h => ?_)
      refine fx_callV (Mc := m_X34_loses) (as := [.int v4, .int v9]) (cs := [31]) (r := x1) (f_clsC inf_X34 q993 f_cls0) bm_X34_loses q991 q992 (Nat.le_of_ble_eq_true rfl) dX0_loses_92 h (fun b h => mt_X34_loses (fx_k2v h (fun σ11 h => ?_) (fun q σ' h => h.elim)))
      refine am_iinc (x := x5) (v := (x5 + 1)) (L' := [(10, .int (x5 + 1)), (2, va_rf x1), (8, va_rf x4)]) dX0_loses_95 rfl rfl (Nat.le_of_ble_eq_true rfl) rfl ?_
      refine am_goto (tgt := 59) dX0_loses_98 (by decide) ?_
      exact am_lss h rfl
theorem W_X0_fixedOf_2_f {G : am_G} {d : Nat} {a1 : Option Nat} {a2 : Option Nat} {σ : am_S} {Q : Option Nat → am_S → Prop} (h : f_al σ a1 9 (fun v1 => B_X0_fixedOf_2_11 G (d + 1) a1 a2 0 a1 v1 0 σ Q)) : W_X0_fixedOf_2 G (d + 1) a1 a2 σ Q := by
  unfold W_X0_fixedOf_2
  refine am_iconst (v := 0) dX0_fixedOf_2_0 (by decide) ?_
  refine am_istore_n (L' := [(4, .int 0), (0, va_rf a1), (2, va_rf a2)]) dX0_fixedOf_2_1 rfl (Nat.le_of_ble_eq_true rfl) rfl ?_
  refine am_aloadr_n (x := a1) dX0_fixedOf_2_2 rfl rfl ?_
  refine am_astore_n (x := a1) (L' := [(6, va_rf a1), (4, .int 0), (0, va_rf a1), (2, va_rf a2)]) dX0_fixedOf_2_3 rfl (Nat.le_of_ble_eq_true rfl) rfl ?_
  refine am_aloadr_n (x := a1) dX0_fixedOf_2_4 rfl rfl ?_
  refine fx_al (τ := 9) rfl dX0_fixedOf_2_5 h (fun v1 h => ?_)
  refine am_istore (L' := [(8, .int v1), (6, va_rf a1), (4, .int 0), (0, va_rf a1), (2, va_rf a2)]) dX0_fixedOf_2_6 (Nat.le_of_ble_eq_true rfl) rfl ?_
  refine am_iconst (v := 0) dX0_fixedOf_2_8 (by decide) ?_
  refine am_istore (L' := [(10, .int 0), (8, .int v1), (6, va_rf a1), (4, .int 0), (0, va_rf a1), (2, va_rf a2)]) dX0_fixedOf_2_9 (Nat.le_of_ble_eq_true rfl) rfl ?_
  exact am_lss h rfl
theorem B_X0_fixedOf_2_11_f {G : am_G} {d : Nat} {x0 : Option Nat} {x1 : Option Nat} {x2 : Int32} {x3 : Option Nat} {x4 : Int32} {x5 : Int32} {σ : am_S} {Q : Option Nat → am_S → Prop} (h : ((x4 ≤ x5 → f_na G σ 11 f_a0r x2 (fun n1 σ2 => f_al σ2 x0 9 (fun v3 => B_X0_fixedOf_2_57 G (d + 1) x1 0 (some n1) x0 v3 0 σ2 Q))) ∧ (¬ x4 ≤ x5 → f_ar σ x3 9 x5 (fun v4 => f_gr σ v4 [21] 5 (fun v5 => f_al σ v5 0 (fun v6 => B_X0_fixedOf_2_11 G (d + 1) x0 x1 (x2 + v6) x3 x4 (x5 + 1) σ Q)))))) : B_X0_fixedOf_2_11 G (d + 1) x0 x1 x2 x3 x4 x5 σ Q := by
  unfold B_X0_fixedOf_2_11
  refine am_iload (x := x5) dX0_fixedOf_2_11 rfl ?_
  refine am_iload (x := x4) dX0_fixedOf_2_13 rfl ?_
  refine am_icmp_ge (tgt := 39) dX0_fixedOf_2_15 (by decide) (fun c => ?_) (fun c => ?_)
  · have h := h.1 c
    refine am_iload_n (x := x2) dX0_fixedOf_2_39 rfl rfl ?_
    refine fx_nar (τ := 11) q276 q277 rfl dX0_fixedOf_2_40 h (fun n1 σ2 h => ?_)
    refine am_astore_n (x := (some n1)) (L' := [(6, va_rf (some n1)), (0, va_rf x0), (2, va_rf x1), (4, .int x2), (8, .int x4), (10, .int x5)]) dX0_fixedOf_2_43 rfl (Nat.le_of_ble_eq_true rfl) rfl ?_
    refine am_iconst (v := 0) dX0_fixedOf_2_44 (by decide) ?_
    refine am_istore_n (L' := [(4, .int 0), (6, va_rf (some n1)), (0, va_rf x0), (2, va_rf x1), (8, .int x4), (10, .int x5)]) dX0_fixedOf_2_45 rfl (Nat.le_of_ble_eq_true rfl) rfl ?_
    refine am_aloadr_n (x := x0) dX0_fixedOf_2_46 rfl rfl ?_
    refine am_astore (x := x0) (L' := [(8, va_rf x0), (4, .int 0), (6, va_rf (some n1)), (0, va_rf x0), (2, va_rf x1), (10, .int x5)]) dX0_fixedOf_2_47 (Nat.le_of_ble_eq_true rfl) rfl ?_
    refine am_aloadr (x := x0) dX0_fixedOf_2_49 rfl ?_
    refine fx_al (τ := 9) rfl dX0_fixedOf_2_51 h (fun v3 h => ?_)
    refine am_istore (L' := [(10, .int v3), (8, va_rf x0), (4, .int 0), (6, va_rf (some n1)), (0, va_rf x0), (2, va_rf x1)]) dX0_fixedOf_2_52 (Nat.le_of_ble_eq_true rfl) rfl ?_
    refine am_iconst (v := 0) dX0_fixedOf_2_54 (by decide) ?_
    refine am_istore (L' := [(12, .int 0), (10, .int v3), (8, va_rf x0), (4, .int 0), (6, va_rf (some n1)), (0, va_rf x0), (2, va_rf x1)]) dX0_fixedOf_2_55 (Nat.le_of_ble_eq_true rfl) rfl ?_
    exact am_lss h rfl
  · have h := h.2 c
    refine am_aloadr_n (x := x3) dX0_fixedOf_2_18 rfl rfl ?_
    refine am_iload (x := x5) dX0_fixedOf_2_19 rfl ?_
    refine fx_ar (τ := 9) rfl rfl dX0_fixedOf_2_21 h (fun v4 h => ?_)
    refine am_astore (x := v4) (L' := [(12, va_rf v4), (0, va_rf x0), (2, va_rf x1), (4, .int x2), (6, va_rf x3), (8, .int x4), (10, .int x5)]) dX0_fixedOf_2_22 (Nat.le_of_ble_eq_true rfl) rfl ?_
    refine am_iload_n (x := x2) dX0_fixedOf_2_24 rfl rfl ?_
    refine am_aloadr (x := v4) dX0_fixedOf_2_25 rfl ?_
    refine fx_gr (k := 5) (f_fldC (ref := "PondHouse$Kind") inf_X23 (by decide) q921 (Or.inl rfl) f_fld0) dX0_fixedOf_2_27 h (fun v5 h => ?_)
    refine fx_al (τ := 0) rfl dX0_fixedOf_2_30 h (fun v6 h => ?_)
    refine am_iadd dX0_fixedOf_2_31 ?_
    refine am_istore_n (L' := [(4, .int (x2 + v6)), (12, va_rf v4), (0, va_rf x0), (2, va_rf x1), (6, va_rf x3), (8, .int x4), (10, .int x5)]) dX0_fixedOf_2_32 rfl (Nat.le_of_ble_eq_true rfl) rfl ?_
    refine am_iinc (x := x5) (v := (x5 + 1)) (L' := [(10, .int (x5 + 1)), (4, .int (x2 + v6)), (12, va_rf v4), (0, va_rf x0), (2, va_rf x1), (6, va_rf x3), (8, .int x4)]) dX0_fixedOf_2_33 rfl rfl (Nat.le_of_ble_eq_true rfl) rfl ?_
    refine am_goto (tgt := 11) dX0_fixedOf_2_36 (by decide) ?_
    exact am_lss h rfl
theorem B_X0_fixedOf_2_57_f {G : am_G} {d : Nat} {x1 : Option Nat} {x2 : Int32} {x3 : Option Nat} {x4 : Option Nat} {x5 : Int32} {x6 : Int32} {σ : am_S} {Q : Option Nat → am_S → Prop} (h : ((x5 ≤ x6 → Q x3 σ) ∧ (¬ x5 ≤ x6 → f_ar σ x4 9 x6 (fun v1 => B_X0_fixedOf_2_74 G (d + 1) x1 x2 x3 x4 x5 x6 v1 0 σ Q)))) : B_X0_fixedOf_2_57 G (d + 1) x1 x2 x3 x4 x5 x6 σ Q := by
  unfold B_X0_fixedOf_2_57
  refine am_iload (x := x6) dX0_fixedOf_2_57 rfl ?_
  refine am_iload (x := x5) dX0_fixedOf_2_59 rfl ?_
  refine am_icmp_ge (tgt := 163) dX0_fixedOf_2_61 (by decide) (fun c => ?_) (fun c => ?_)
  · have h := h.1 c
    refine am_aloadr_n (x := x3) dX0_fixedOf_2_163 rfl rfl ?_
    exact fx_aret rfl rfl dX0_fixedOf_2_164 h
  · have h := h.2 c
    refine am_aloadr (x := x4) dX0_fixedOf_2_64 rfl ?_
    refine am_iload (x := x6) dX0_fixedOf_2_66 rfl ?_
    refine fx_ar (τ := 9) rfl rfl dX0_fixedOf_2_68 h (fun v1 h => ?_)
    refine am_astore (x := v1) (L' := [(14, va_rf v1), (2, va_rf x1), (4, .int x2), (6, va_rf x3), (8, va_rf x4), (10, .int x5), (12, .int x6)]) dX0_fixedOf_2_69 (Nat.le_of_ble_eq_true rfl) rfl ?_
    refine am_iconst (v := 0) dX0_fixedOf_2_71 (by decide) ?_
    refine am_istore (L' := [(16, .int 0), (14, va_rf v1), (2, va_rf x1), (4, .int x2), (6, va_rf x3), (8, va_rf x4), (10, .int x5), (12, .int x6)]) dX0_fixedOf_2_72 (Nat.le_of_ble_eq_true rfl) rfl ?_
    exact am_lss h rfl
theorem B_X0_fixedOf_2_74_f {G : am_G} {d : Nat} {x1 : Option Nat} {x2 : Int32} {x3 : Option Nat} {x4 : Option Nat} {x5 : Int32} {x6 : Int32} {x7 : Option Nat} {x8 : Int32} {σ : am_S} {Q : Option Nat → am_S → Prop} (h : f_gr σ x7 [21] 5 (fun v1 => f_al σ v1 0 (fun v2 => ((v2 ≤ x8 → B_X0_fixedOf_2_57 G (d + 1) x1 x2 x3 x4 x5 (x6 + 1) σ Q) ∧ (¬ v2 ≤ x8 → f_gi σ x7 [21] 0 (fun v3 => f_gr σ x7 [21] 5 (fun v4 => f_ai σ v4 0 x8 (fun v5 => W_X0_find_2 G d x1 v3 v5 σ (fun v6 σ7 => f_new G σ7 23 3 tyX25 (fun n10 σ11 => f_gi σ11 x7 [21] 0 (fun v12 => f_gr σ11 x7 [21] 5 (fun v13 => f_ai σ11 v13 0 x8 (fun v14 => ((¬ v6 = none → f_gi σ11 v6 [23] 2 (fun v15 => W_X25_init G d n10 v12 v14 v15 σ11 (fun σ17 => f_sr σ17 x3 11 [23] x2 (some n10) (fun σ20 => B_X0_fixedOf_2_74 G (d + 1) x1 (x2 + 1) x3 x4 x5 x6 x7 (x8 + 1) σ20 Q)))) ∧ (v6 = none → f_gr σ11 x7 [21] 6 (fun v21 => f_ai σ11 v21 0 x8 (fun v22 => W_X25_init G d n10 v12 v14 v22 σ11 (fun σ24 => f_sr σ24 x3 11 [23] x2 (some n10) (fun σ27 => B_X0_fixedOf_2_74 G (d + 1) x1 (x2 + 1) x3 x4 x5 x6 x7 (x8 + 1) σ27 Q))))))))))))))))))) : B_X0_fixedOf_2_74 G (d + 1) x1 x2 x3 x4 x5 x6 x7 x8 σ Q := by
  unfold B_X0_fixedOf_2_74
  refine am_iload (x := x8) dX0_fixedOf_2_74 rfl ?_
  refine am_aloadr (x := x7) dX0_fixedOf_2_76 rfl ?_
  refine fx_gr (k := 5) (f_fldC (ref := "PondHouse$Kind") inf_X23 (by decide) q921 (Or.inl rfl) f_fld0) dX0_fixedOf_2_78 h (fun v1 h => ?_)
  refine fx_al (τ := 0) rfl dX0_fixedOf_2_81 h (fun v2 h => ?_)
  refine am_icmp_ge (tgt := 157) dX0_fixedOf_2_82 (by decide) (fun c => ?_) (fun c => ?_)
  · have h := h.1 c
    refine am_iinc (x := x6) (v := (x6 + 1)) (L' := [(12, .int (x6 + 1)), (2, va_rf x1), (4, .int x2), (6, va_rf x3), (8, va_rf x4), (10, .int x5), (14, va_rf x7), (16, .int x8)]) dX0_fixedOf_2_157 rfl rfl (Nat.le_of_ble_eq_true rfl) rfl ?_
    refine am_goto (tgt := 57) dX0_fixedOf_2_160 (by decide) ?_
    exact am_lss h rfl
  · have h := h.2 c
    refine am_aloadr_n (x := x1) dX0_fixedOf_2_85 rfl rfl ?_
    refine am_aloadr (x := x7) dX0_fixedOf_2_86 rfl ?_
    refine fx_gi (k := 0) (f_fldC (ref := "PondHouse$Kind") inf_X23 (by decide) q907 (Or.inl rfl) f_fld0) dX0_fixedOf_2_88 h (fun v3 h => ?_)
    refine am_aloadr (x := x7) dX0_fixedOf_2_91 rfl ?_
    refine fx_gr (k := 5) (f_fldC (ref := "PondHouse$Kind") inf_X23 (by decide) q921 (Or.inl rfl) f_fld0) dX0_fixedOf_2_93 h (fun v4 h => ?_)
    refine am_iload (x := x8) dX0_fixedOf_2_96 rfl ?_
    refine fx_ai0 dX0_fixedOf_2_98 h (fun v5 h => ?_)
    refine fx_callS (Mc := m_X0_find_2) (as := [va_rf x1, .int v3, .int v5]) bm_X0_find_2 q278 q279 (Nat.le_of_ble_eq_true rfl) dX0_fixedOf_2_99 (mt_X0_find_2 (fx_k2r h (fun v6 σ7 h => ?_) (fun q σ' h => h.elim)))
    refine am_astore (x := v6) (L' := [(18, va_rf v6), (2, va_rf x1), (4, .int x2), (6, va_rf x3), (8, va_rf x4), (10, .int x5), (12, .int x6), (14, va_rf x7), (16, .int x8)]) dX0_fixedOf_2_102 (Nat.le_of_ble_eq_true rfl) rfl ?_
    refine am_aloadr_n (x := x3) dX0_fixedOf_2_104 rfl rfl ?_
    refine am_iload_n (x := x2) dX0_fixedOf_2_105 rfl rfl ?_
    refine fx_new inf_X25 q276 q998 q203 dX0_fixedOf_2_106 h (fun n10 σ11 h => ?_)
    refine am_dup dX0_fixedOf_2_109 (am_rf_cat _) ?_
    refine am_aloadr (x := x7) dX0_fixedOf_2_110 rfl ?_
    refine fx_gi (k := 0) (f_fldC (ref := "PondHouse$Kind") inf_X23 (by decide) q907 (Or.inl rfl) f_fld0) dX0_fixedOf_2_112 h (fun v12 h => ?_)
    refine am_aloadr (x := x7) dX0_fixedOf_2_115 rfl ?_
    refine fx_gr (k := 5) (f_fldC (ref := "PondHouse$Kind") inf_X23 (by decide) q921 (Or.inl rfl) f_fld0) dX0_fixedOf_2_117 h (fun v13 h => ?_)
    refine am_iload (x := x8) dX0_fixedOf_2_120 rfl ?_
    refine fx_ai0 dX0_fixedOf_2_122 h (fun v14 h => ?_)
    refine am_aloadr (x := v6) dX0_fixedOf_2_123 rfl ?_
    refine am_ifnonnullr (tgt := 139) dX0_fixedOf_2_125 (by decide) (fun c => ?_) (fun c => ?_)
    · have h := h.1 c
      refine am_aloadr (x := v6) dX0_fixedOf_2_139 rfl ?_
      refine fx_gi (k := 2) (f_fldC (ref := "PondHouse$Fixed") inf_X25 (by decide) q1009 (Or.inl rfl) f_fld0) dX0_fixedOf_2_141 h (fun v15 h => ?_)
      refine fx_callI (Mc := m_X25_init) (as := [.int v12, .int v14, .int v15]) bm_X25_init q999 q1000 rfl rfl (Nat.le_of_ble_eq_true rfl) dX0_fixedOf_2_144 (mt_X25_init (fx_k2v h (fun σ17 h => ?_) (fun q σ' h => h.elim)))
      refine fx_sr (τ := 11) (E := "PondHouse$Fixed") (cs := [23]) (v := (some n10)) rfl (f_clsC inf_X25 (Or.inl rfl) f_cls0) dX0_fixedOf_2_147 h (fun σ20 h => ?_)
      refine am_iinc (x := x2) (v := (x2 + 1)) (L' := [(4, .int (x2 + 1)), (18, va_rf v6), (2, va_rf x1), (6, va_rf x3), (8, va_rf x4), (10, .int x5), (12, .int x6), (14, va_rf x7), (16, .int x8)]) dX0_fixedOf_2_148 rfl rfl (Nat.le_of_ble_eq_true rfl) rfl ?_
      refine am_iinc (x := x8) (v := (x8 + 1)) (L' := [(16, .int (x8 + 1)), (4, .int (x2 + 1)), (18, va_rf v6), (2, va_rf x1), (6, va_rf x3), (8, va_rf x4), (10, .int x5), (12, .int x6), (14, va_rf x7)]) dX0_fixedOf_2_151 rfl rfl (Nat.le_of_ble_eq_true rfl) rfl ?_
      refine am_goto (tgt := 74) dX0_fixedOf_2_154 (by decide) ?_
      exact am_lss h rfl
    · have h := h.2 c
      refine am_aloadr (x := x7) dX0_fixedOf_2_128 rfl ?_
      refine fx_gr (k := 6) (f_fldC (ref := "PondHouse$Kind") inf_X23 (by decide) q924 (Or.inl rfl) f_fld0) dX0_fixedOf_2_130 h (fun v21 h => ?_)
      refine am_iload (x := x8) dX0_fixedOf_2_133 rfl ?_
      refine fx_ai0 dX0_fixedOf_2_135 h (fun v22 h => ?_)
      refine am_goto (tgt := 144) dX0_fixedOf_2_136 (by decide) ?_
      refine fx_callI (Mc := m_X25_init) (as := [.int v12, .int v14, .int v22]) bm_X25_init q999 q1000 rfl rfl (Nat.le_of_ble_eq_true rfl) dX0_fixedOf_2_144 (mt_X25_init (fx_k2v h (fun σ24 h => ?_) (fun q σ' h => h.elim)))
      refine fx_sr (τ := 11) (E := "PondHouse$Fixed") (cs := [23]) (v := (some n10)) rfl (f_clsC inf_X25 (Or.inl rfl) f_cls0) dX0_fixedOf_2_147 h (fun σ27 h => ?_)
      refine am_iinc (x := x2) (v := (x2 + 1)) (L' := [(4, .int (x2 + 1)), (18, va_rf v6), (2, va_rf x1), (6, va_rf x3), (8, va_rf x4), (10, .int x5), (12, .int x6), (14, va_rf x7), (16, .int x8)]) dX0_fixedOf_2_148 rfl rfl (Nat.le_of_ble_eq_true rfl) rfl ?_
      refine am_iinc (x := x8) (v := (x8 + 1)) (L' := [(16, .int (x8 + 1)), (4, .int (x2 + 1)), (18, va_rf v6), (2, va_rf x1), (6, va_rf x3), (8, va_rf x4), (10, .int x5), (12, .int x6), (14, va_rf x7)]) dX0_fixedOf_2_151 rfl rfl (Nat.le_of_ble_eq_true rfl) rfl ?_
      refine am_goto (tgt := 74) dX0_fixedOf_2_154 (by decide) ?_
      exact am_lss h rfl
theorem W_X0_checks_f {G : am_G} {d : Nat} {a0 : Nat} {a1 : Option Nat} {σ : am_S} {Q : am_S → Prop} {E : Nat → am_S → Prop} (h : B_X0_checks_2 G (d + 1) a0 a1 0 σ Q E) : W_X0_checks G (d + 1) a0 a1 σ Q E := by
  unfold W_X0_checks
  refine am_iconst (v := 0) dX0_checks_0 (by decide) ?_
  refine am_istore_n (L' := [(4, .int 0), (0, va_rf (some a0)), (2, va_rf a1)]) dX0_checks_1 rfl (Nat.le_of_ble_eq_true rfl) rfl ?_
  exact am_lss h rfl
theorem B_X0_checks_2_f {G : am_G} {d : Nat} {a0 : Nat} {x1 : Option Nat} {x2 : Int32} {σ : am_S} {Q : am_S → Prop} {E : Nat → am_S → Prop} (h : f_gr σ x1 [24] 0 (fun v1 => f_o σ v1 [7] (fun b => W_X7_size G d b σ (fun v2 σ3 => ((v2 ≤ x2 → Q σ3) ∧ (¬ v2 ≤ x2 → f_gr σ3 x1 [24] 0 (fun v6 => f_o σ3 v6 [7] (fun b => W_X7_get G d b x2 σ3 (fun v7 σ8 => f_k σ8 v7 [25, 26, 28, 29, 30] (f_is σ8 v7 [30] [25, 26, 28, 29] (fun v11 => ((¬ v11 = 0 → B_X0_checks_38 G (d + 1) a0 x1 x2 v7 0 σ8 Q E) ∧ (v11 = 0 → B_X0_checks_2 G (d + 1) a0 x1 (x2 + 1) σ8 Q E))))))))))))) : B_X0_checks_2 G (d + 1) a0 x1 x2 σ Q E := by
  unfold B_X0_checks_2
  refine am_iload_n (x := x2) dX0_checks_2 rfl rfl ?_
  refine am_aloadr_n (x := x1) dX0_checks_3 rfl rfl ?_
  refine fx_gr (k := 0) (f_fldC (ref := "PondHouse$Patch") inf_X26 (by decide) q2216 (Or.inl rfl) f_fld0) dX0_checks_4 h (fun v1 h => ?_)
  refine fx_callV (Mc := m_X7_size) (as := []) (cs := [7]) (r := v1) (f_clsC inf_X7 q711 f_cls0) bm_X7_size q709 q710 (Nat.le_of_ble_eq_true rfl) dX0_checks_7 h (fun b h => mt_X7_size (fx_k2i h (fun v2 σ3 h => ?_) (fun q σ' h => h.elim)))
  refine am_icmp_ge (tgt := 113) dX0_checks_10 (by decide) (fun c => ?_) (fun c => ?_)
  · have h := h.1 c
    exact am_vret rfl dX0_checks_113 h
  · have h := h.2 c
    refine am_aloadr_n (x := x1) dX0_checks_13 rfl rfl ?_
    refine fx_gr (k := 0) (f_fldC (ref := "PondHouse$Patch") inf_X26 (by decide) q2216 (Or.inl rfl) f_fld0) dX0_checks_14 h (fun v6 h => ?_)
    refine am_iload_n (x := x2) dX0_checks_17 rfl rfl ?_
    refine fx_callV (Mc := m_X7_get) (as := [.int x2]) (cs := [7]) (r := v6) (f_clsC inf_X7 q719 f_cls0) bm_X7_get q717 q718 (Nat.le_of_ble_eq_true rfl) dX0_checks_18 h (fun b h => mt_X7_get (fx_k2r h (fun v7 σ8 h => ?_) (fun q σ' h => h.elim)))
    refine fx_cc (cs := [25, 26, 28, 29, 30]) (f_clsC inf_X28 (Or.inr q3083) (f_clsC inf_X29 (Or.inr q3084) (f_clsC inf_X31 (Or.inr q3085) (f_clsC inf_X32 (Or.inr q3086) (f_clsC inf_X33 (Or.inr q3082) f_cls0))))) q735 dX0_checks_21 h (fun h => ?_)
    refine am_astore_n (x := v7) (L' := [(6, va_rf v7), (0, va_rf (some a0)), (2, va_rf x1), (4, .int x2)]) dX0_checks_24 rfl (Nat.le_of_ble_eq_true rfl) rfl ?_
    refine am_aloadr_n (x := v7) dX0_checks_25 rfl rfl ?_
    refine fx_is (ys := [30]) (ns := [25, 26, 28, 29]) (f_clsC inf_X33 (Or.inl rfl) f_cls0) (f_clsC inf_X28 (by decide) (f_clsC inf_X29 (by decide) (f_clsC inf_X31 (by decide) (f_clsC inf_X32 (by decide) f_cls0)))) q1021 dX0_checks_26 h (fun v11 h => ?_)
    refine am_if_ne (tgt := 35) dX0_checks_29 (by decide) (fun c => ?_) (fun c => ?_)
    · have h := h.1 c
      refine am_iconst (v := 0) dX0_checks_35 (by decide) ?_
      refine am_istore (L' := [(8, .int 0), (6, va_rf v7), (0, va_rf (some a0)), (2, va_rf x1), (4, .int x2)]) dX0_checks_36 (Nat.le_of_ble_eq_true rfl) rfl ?_
      exact am_lss h rfl
    · have h := h.2 c
      refine am_goto (tgt := 107) dX0_checks_32 (by decide) ?_
      refine am_iinc (x := x2) (v := (x2 + 1)) (L' := [(4, .int (x2 + 1)), (6, va_rf v7), (0, va_rf (some a0)), (2, va_rf x1)]) dX0_checks_107 rfl rfl (Nat.le_of_ble_eq_true rfl) rfl ?_
      refine am_goto (tgt := 2) dX0_checks_110 (by decide) ?_
      exact am_lss h rfl
theorem B_X0_checks_38_f {G : am_G} {d : Nat} {a0 : Nat} {x1 : Option Nat} {x2 : Int32} {x3 : Option Nat} {x4 : Int32} {σ : am_S} {Q : am_S → Prop} {E : Nat → am_S → Prop} (h : f_gi σ (some a0) [0] 6 (fun v1 => ((v1 ≤ x4 → B_X0_checks_2 G (d + 1) a0 x1 (x2 + 1) σ Q E) ∧ (¬ v1 ≤ x4 → f_gr σ (some a0) [0] 5 (fun v2 => f_ar σ v2 12 x4 (fun v3 => f_gr σ v3 [31] 1 (fun v4 => ((v4 = none → B_X0_checks_38 G (d + 1) a0 x1 x2 x3 (x4 + 1) σ Q E) ∧ (¬ v4 = none → f_gr σ v3 [31] 1 (fun v5 => f_gi σ x3 [25, 26, 28, 29, 30] 0 (fun v6 => f_o σ v5 [21] (fun b => W_X23_isUnder G d b v6 σ (fun v7 σ8 => ((v7 = 0 → B_X0_checks_38 G (d + 1) a0 x1 x2 x3 (x4 + 1) σ8 Q E) ∧ (¬ v7 = 0 → f_k σ8 x3 [30] (f_o σ8 x3 [30] (fun b => W_X33_holds G d b v3 σ8 (fun v11 σ12 => ((¬ v11 = 0 → B_X0_checks_38 G (d + 1) a0 x1 x2 x3 (x4 + 1) σ12 Q E) ∧ (v11 = 0 → f_o σ12 (some a0) [0] (fun b => W_X0_refuses G d b 10 x2 x4 σ12 (fun v15 σ16 => f_o σ16 v15 [5] (fun q => E q σ16))))))))))))))))))))))) : B_X0_checks_38 G (d + 1) a0 x1 x2 x3 x4 σ Q E := by
  unfold B_X0_checks_38
  refine am_iload (x := x4) dX0_checks_38 rfl ?_
  refine am_aloadr_n (x := some a0) dX0_checks_40 rfl rfl ?_
  refine fx_gi (k := 6) (f_fldC (ref := "PondHouse") inf_X0 (by decide) q1243 (Or.inl rfl) f_fld0) dX0_checks_41 h (fun v1 h => ?_)
  refine am_icmp_ge (tgt := 107) dX0_checks_44 (by decide) (fun c => ?_) (fun c => ?_)
  · have h := h.1 c
    refine am_iinc (x := x2) (v := (x2 + 1)) (L' := [(4, .int (x2 + 1)), (0, va_rf (some a0)), (2, va_rf x1), (6, va_rf x3), (8, .int x4)]) dX0_checks_107 rfl rfl (Nat.le_of_ble_eq_true rfl) rfl ?_
    refine am_goto (tgt := 2) dX0_checks_110 (by decide) ?_
    exact am_lss h rfl
  · have h := h.2 c
    refine am_aloadr_n (x := some a0) dX0_checks_47 rfl rfl ?_
    refine fx_gr (k := 5) (f_fldC (ref := "PondHouse") inf_X0 (by decide) q1242 (Or.inl rfl) f_fld0) dX0_checks_48 h (fun v2 h => ?_)
    refine am_iload (x := x4) dX0_checks_51 rfl ?_
    refine fx_ar (τ := 12) rfl rfl dX0_checks_53 h (fun v3 h => ?_)
    refine am_astore (x := v3) (L' := [(10, va_rf v3), (0, va_rf (some a0)), (2, va_rf x1), (4, .int x2), (6, va_rf x3), (8, .int x4)]) dX0_checks_54 (Nat.le_of_ble_eq_true rfl) rfl ?_
    refine am_aloadr (x := v3) dX0_checks_56 rfl ?_
    refine fx_gr (k := 1) (f_fldC (ref := "PondHouse$Creature") inf_X34 (by decide) q2253 (Or.inl rfl) f_fld0) dX0_checks_58 h (fun v4 h => ?_)
    refine am_ifnullr (tgt := 101) dX0_checks_61 (by decide) (fun c => ?_) (fun c => ?_)
    · have h := h.1 c
      refine am_iinc (x := x4) (v := (x4 + 1)) (L' := [(8, .int (x4 + 1)), (10, va_rf v3), (0, va_rf (some a0)), (2, va_rf x1), (4, .int x2), (6, va_rf x3)]) dX0_checks_101 rfl rfl (Nat.le_of_ble_eq_true rfl) rfl ?_
      refine am_goto (tgt := 38) dX0_checks_104 (by decide) ?_
      exact am_lss h rfl
    · have h := h.2 c
      refine am_aloadr (x := v3) dX0_checks_64 rfl ?_
      refine fx_gr (k := 1) (f_fldC (ref := "PondHouse$Creature") inf_X34 (by decide) q2253 (Or.inl rfl) f_fld0) dX0_checks_66 h (fun v5 h => ?_)
      refine am_aloadr_n (x := x3) dX0_checks_69 rfl rfl ?_
      refine fx_gi (k := 0) (f_fldC (ref := "PondHouse$Change") inf_X28 (by decide) q2102 (Or.inl rfl) (f_fldC (ref := "PondHouse$Change") inf_X29 (by decide) q2102 (Or.inl rfl) (f_fldC (ref := "PondHouse$Change") inf_X31 (by decide) q2102 (Or.inl rfl) (f_fldC (ref := "PondHouse$Change") inf_X32 (by decide) q2102 (Or.inl rfl) (f_fldC (ref := "PondHouse$Change") inf_X33 (by decide) q2102 (Or.inl rfl) f_fld0))))) dX0_checks_70 h (fun v6 h => ?_)
      refine fx_callV (Mc := m_X23_isUnder) (as := [.int v6]) (cs := [21]) (r := v5) (f_clsC inf_X23 q970 f_cls0) bm_X23_isUnder q968 q969 (Nat.le_of_ble_eq_true rfl) dX0_checks_73 h (fun b h => mt_X23_isUnder (fx_k2i h (fun v7 σ8 h => ?_) (fun q σ' h => h.elim)))
      refine am_if_eq (tgt := 101) dX0_checks_76 (by decide) (fun c => ?_) (fun c => ?_)
      · have h := h.1 c
        refine am_iinc (x := x4) (v := (x4 + 1)) (L' := [(8, .int (x4 + 1)), (10, va_rf v3), (0, va_rf (some a0)), (2, va_rf x1), (4, .int x2), (6, va_rf x3)]) dX0_checks_101 rfl rfl (Nat.le_of_ble_eq_true rfl) rfl ?_
        refine am_goto (tgt := 38) dX0_checks_104 (by decide) ?_
        exact am_lss h rfl
      · have h := h.2 c
        refine am_aloadr_n (x := x3) dX0_checks_79 rfl rfl ?_
        refine fx_cc (cs := [30]) (f_clsC inf_X33 (Or.inl rfl) f_cls0) q1021 dX0_checks_80 h (fun h => ?_)
        refine am_aloadr (x := v3) dX0_checks_83 rfl ?_
        refine fx_callVX (Mc := m_X33_holds) (as := [va_rf v3]) (cs := [30]) (r := x3) (f_clsC inf_X33 q1024 f_cls0) bm_X33_holds q1022 q1023 (Nat.le_of_ble_eq_true rfl) dX0_checks_85 h (fun b h => mt_X33_holds (fx_k2i h (fun v11 σ12 h => ?_) (fun q σ' h => h.elim)))
        refine am_if_ne (tgt := 101) dX0_checks_88 (by decide) (fun c => ?_) (fun c => ?_)
        · have h := h.1 c
          refine am_iinc (x := x4) (v := (x4 + 1)) (L' := [(8, .int (x4 + 1)), (10, va_rf v3), (0, va_rf (some a0)), (2, va_rf x1), (4, .int x2), (6, va_rf x3)]) dX0_checks_101 rfl rfl (Nat.le_of_ble_eq_true rfl) rfl ?_
          refine am_goto (tgt := 38) dX0_checks_104 (by decide) ?_
          exact am_lss h rfl
        · have h := h.2 c
          refine am_aloadr_n (x := some a0) dX0_checks_91 rfl rfl ?_
          refine am_bipush (v := 10) dX0_checks_92 (by decide) ?_
          refine am_iload_n (x := x2) dX0_checks_94 rfl rfl ?_
          refine am_iload (x := x4) dX0_checks_95 rfl ?_
          refine fx_callV (Mc := m_X0_refuses) (as := [.int 10, .int x2, .int x4]) (cs := [0]) (r := (some a0)) (f_clsC inf_X0 qs23 f_cls0) bm_X0_refuses q958 q753 (Nat.le_of_ble_eq_true rfl) dX0_checks_97 h (fun b h => mt_X0_refuses (fx_k2r h (fun v15 σ16 h => ?_) (fun q σ' h => h.elim)))
          exact fx_throw (cs := [5]) dX0_checks_100 h (fun q h => am_xout (by decide +kernel) h)
theorem W_X0_takesBack_f {G : am_G} {d : Nat} {a0 : Nat} {a1 : Option Nat} {a2 : Option Nat} {σ : am_S} {Q : am_S → Prop} (h : f_p σ (some a0) [0] 3 (va_rf a1) (fun σ1 => f_p σ1 (some a0) [0] 4 (va_rf a2) (fun σ2 => B_X0_takesBack_12 G (d + 1) a0 0 σ2 Q))) : W_X0_takesBack G (d + 1) a0 a1 a2 σ Q := by
  unfold W_X0_takesBack
  refine am_aloadr_n (x := some a0) dX0_takesBack_0 rfl rfl ?_
  refine am_aloadr_n (x := a1) dX0_takesBack_1 rfl rfl ?_
  refine fx_p (k := 3) (v := va_rf a1) (f_putC inf_X0 (by decide) (f_nra _ _) (f_fra _ _) q1240 (Or.inl rfl) f_put0) dX0_takesBack_2 h (fun σ1 h => ?_)
  refine am_aloadr_n (x := some a0) dX0_takesBack_5 rfl rfl ?_
  refine am_aloadr_n (x := a2) dX0_takesBack_6 rfl rfl ?_
  refine fx_p (k := 4) (v := va_rf a2) (f_putC inf_X0 (by decide) (f_nra _ _) (f_fra _ _) q1241 (Or.inl rfl) f_put0) dX0_takesBack_7 h (fun σ2 h => ?_)
  refine am_iconst (v := 0) dX0_takesBack_10 (by decide) ?_
  refine am_istore_n (L' := [(6, .int 0), (0, va_rf (some a0)), (2, va_rf a1), (4, va_rf a2)]) dX0_takesBack_11 rfl (Nat.le_of_ble_eq_true rfl) rfl ?_
  exact am_lss h rfl
theorem B_X0_takesBack_12_f {G : am_G} {d : Nat} {a0 : Nat} {x3 : Int32} {σ : am_S} {Q : am_S → Prop} (h : f_gi σ (some a0) [0] 6 (fun v1 => ((v1 ≤ x3 → Q σ) ∧ (¬ v1 ≤ x3 → f_gr σ (some a0) [0] 5 (fun v2 => f_ar σ v2 12 x3 (fun v3 => f_gr σ (some a0) [0] 30 (fun v4 => f_ar σ v4 9 x3 (fun v5 => f_p σ v3 [31] 1 (va_rf v5) (fun σ6 => f_gr σ6 (some a0) [0] 31 (fun v7 => f_ar σ6 v7 17 x3 (fun v8 => f_p σ6 v3 [31] 2 (va_rf v8) (fun σ9 => f_gr σ9 (some a0) [0] 28 (fun v10 => f_ar σ9 v10 17 x3 (fun v11 => f_gr σ9 v3 [31] 3 (fun v12 => f_cpi σ9 v11 0 v12 0 40 0 .int (fun σ13 => f_gr σ13 (some a0) [0] 29 (fun v14 => f_ar σ13 v14 18 x3 (fun v15 => f_gr σ13 v3 [31] 4 (fun v16 => f_cpi σ13 v15 0 v16 0 40 3 .boolean (fun σ17 => B_X0_takesBack_12 G (d + 1) a0 (x3 + 1) σ17 Q)))))))))))))))))))) : B_X0_takesBack_12 G (d + 1) a0 x3 σ Q := by
  unfold B_X0_takesBack_12
  refine am_iload_n (x := x3) dX0_takesBack_12 rfl rfl ?_
  refine am_aloadr_n (x := some a0) dX0_takesBack_13 rfl rfl ?_
  refine fx_gi (k := 6) (f_fldC (ref := "PondHouse") inf_X0 (by decide) q1243 (Or.inl rfl) f_fld0) dX0_takesBack_14 h (fun v1 h => ?_)
  refine am_icmp_ge (tgt := 92) dX0_takesBack_17 (by decide) (fun c => ?_) (fun c => ?_)
  · have h := h.1 c
    exact am_vret rfl dX0_takesBack_92 h
  · have h := h.2 c
    refine am_aloadr_n (x := some a0) dX0_takesBack_20 rfl rfl ?_
    refine fx_gr (k := 5) (f_fldC (ref := "PondHouse") inf_X0 (by decide) q1242 (Or.inl rfl) f_fld0) dX0_takesBack_21 h (fun v2 h => ?_)
    refine am_iload_n (x := x3) dX0_takesBack_24 rfl rfl ?_
    refine fx_ar (τ := 12) rfl rfl dX0_takesBack_25 h (fun v3 h => ?_)
    refine am_astore (x := v3) (L' := [(8, va_rf v3), (0, va_rf (some a0)), (6, .int x3)]) dX0_takesBack_26 (Nat.le_of_ble_eq_true rfl) rfl ?_
    refine am_aloadr (x := v3) dX0_takesBack_28 rfl ?_
    refine am_aloadr_n (x := some a0) dX0_takesBack_30 rfl rfl ?_
    refine fx_gr (k := 30) (f_fldC (ref := "PondHouse") inf_X0 (by decide) q1270 (Or.inl rfl) f_fld0) dX0_takesBack_31 h (fun v4 h => ?_)
    refine am_iload_n (x := x3) dX0_takesBack_34 rfl rfl ?_
    refine fx_ar (τ := 9) rfl rfl dX0_takesBack_35 h (fun v5 h => ?_)
    refine fx_p (k := 1) (v := va_rf v5) (f_putC inf_X34 (by decide) (f_nrf _ _) (f_frf _ _) q2253 (Or.inl rfl) f_put0) dX0_takesBack_36 h (fun σ6 h => ?_)
    refine am_aloadr (x := v3) dX0_takesBack_39 rfl ?_
    refine am_aloadr_n (x := some a0) dX0_takesBack_41 rfl rfl ?_
    refine fx_gr (k := 31) (f_fldC (ref := "PondHouse") inf_X0 (by decide) q1271 (Or.inl rfl) f_fld0) dX0_takesBack_42 h (fun v7 h => ?_)
    refine am_iload_n (x := x3) dX0_takesBack_45 rfl rfl ?_
    refine fx_ar (τ := 17) rfl rfl dX0_takesBack_46 h (fun v8 h => ?_)
    refine fx_p (k := 2) (v := va_rf v8) (f_putC inf_X34 (by decide) (f_nra _ _) (f_fra _ _) q2255 (Or.inl rfl) f_put0) dX0_takesBack_47 h (fun σ9 h => ?_)
    refine am_aloadr_n (x := some a0) dX0_takesBack_50 rfl rfl ?_
    refine fx_gr (k := 28) (f_fldC (ref := "PondHouse") inf_X0 (by decide) q1268 (Or.inl rfl) f_fld0) dX0_takesBack_51 h (fun v10 h => ?_)
    refine am_iload_n (x := x3) dX0_takesBack_54 rfl rfl ?_
    refine fx_ar (τ := 17) rfl rfl dX0_takesBack_55 h (fun v11 h => ?_)
    refine am_iconst (v := 0) dX0_takesBack_56 (by decide) ?_
    refine am_aloadr (x := v3) dX0_takesBack_57 rfl ?_
    refine fx_gr (k := 3) (f_fldN (ref := "PondHouse$Creature") inf_X34 (by decide) q2257 rfl f_fld0) dX0_takesBack_59 h (fun v12 h => ?_)
    refine am_iconst (v := 0) dX0_takesBack_62 (by decide) ?_
    refine am_bipush (v := 40) dX0_takesBack_63 (by decide) ?_
    refine fx_cpi (τ := 0) q986 q623 q622 q177 rfl rfl (Nat.le_of_ble_eq_true rfl) dX0_takesBack_65 h (fun σ13 h => ?_)
    refine am_aloadr_n (x := some a0) dX0_takesBack_68 rfl rfl ?_
    refine fx_gr (k := 29) (f_fldC (ref := "PondHouse") inf_X0 (by decide) q1269 (Or.inl rfl) f_fld0) dX0_takesBack_69 h (fun v14 h => ?_)
    refine am_iload_n (x := x3) dX0_takesBack_72 rfl rfl ?_
    refine fx_ar (τ := 18) rfl rfl dX0_takesBack_73 h (fun v15 h => ?_)
    refine am_iconst (v := 0) dX0_takesBack_74 (by decide) ?_
    refine am_aloadr (x := v3) dX0_takesBack_75 rfl ?_
    refine fx_gr (k := 4) (f_fldN (ref := "PondHouse$Creature") inf_X34 (by decide) q2259 rfl f_fld0) dX0_takesBack_77 h (fun v16 h => ?_)
    refine am_iconst (v := 0) dX0_takesBack_80 (by decide) ?_
    refine am_bipush (v := 40) dX0_takesBack_81 (by decide) ?_
    refine fx_cpi (τ := 3) q986 q623 q622 q177 rfl rfl (Nat.le_of_ble_eq_true rfl) dX0_takesBack_83 h (fun σ17 h => ?_)
    refine am_iinc (x := x3) (v := (x3 + 1)) (L' := [(6, .int (x3 + 1)), (8, va_rf v3), (0, va_rf (some a0))]) dX0_takesBack_86 rfl rfl (Nat.le_of_ble_eq_true rfl) rfl ?_
    refine am_goto (tgt := 12) dX0_takesBack_89 (by decide) ?_
    exact am_lss h rfl
theorem W_X0_refusal_f {G : am_G} {d : Nat} {a0 : Nat} {a1 : Int32} {σ : am_S} {Q : Int32 → am_S → Prop} (h : ((¬ a1 = 0 → ((¬ a1 = 1 → ((¬ a1 = 2 → Q (-1) σ) ∧ (a1 = 2 → f_gi σ (some a0) [0] 41 (fun v1 => Q v1 σ)))) ∧ (a1 = 1 → f_gi σ (some a0) [0] 40 (fun v2 => Q v2 σ)))) ∧ (a1 = 0 → f_gi σ (some a0) [0] 39 (fun v3 => Q v3 σ)))) : W_X0_refusal G d a0 a1 σ Q := by
  unfold W_X0_refusal
  refine am_iload_n (x := a1) dX0_refusal_0 rfl rfl ?_
  refine am_if_ne (tgt := 11) dX0_refusal_1 (by decide) (fun c => ?_) (fun c => ?_)
  · have h := h.1 c
    refine am_iload_n (x := a1) dX0_refusal_11 rfl rfl ?_
    refine am_iconst (v := 1) dX0_refusal_12 (by decide) ?_
    refine am_icmp_ne (tgt := 23) dX0_refusal_13 (by decide) (fun c => ?_) (fun c => ?_)
    · have h := h.1 c
      refine am_iload_n (x := a1) dX0_refusal_23 rfl rfl ?_
      refine am_iconst (v := 2) dX0_refusal_24 (by decide) ?_
      refine am_icmp_ne (tgt := 35) dX0_refusal_25 (by decide) (fun c => ?_) (fun c => ?_)
      · have h := h.1 c
        refine am_iconst (v := (-1)) dX0_refusal_35 (by decide) ?_
        exact am_iret rfl dX0_refusal_36 h
      · have h := h.2 c
        refine am_aloadr_n (x := some a0) dX0_refusal_28 rfl rfl ?_
        refine fx_gi (k := 41) (f_fldC (ref := "PondHouse") inf_X0 (by decide) q1281 (Or.inl rfl) f_fld0) dX0_refusal_29 h (fun v1 h => ?_)
        refine am_goto (tgt := 36) dX0_refusal_32 (by decide) ?_
        exact am_iret rfl dX0_refusal_36 h
    · have h := h.2 c
      refine am_aloadr_n (x := some a0) dX0_refusal_16 rfl rfl ?_
      refine fx_gi (k := 40) (f_fldC (ref := "PondHouse") inf_X0 (by decide) q1280 (Or.inl rfl) f_fld0) dX0_refusal_17 h (fun v2 h => ?_)
      refine am_goto (tgt := 36) dX0_refusal_20 (by decide) ?_
      exact am_iret rfl dX0_refusal_36 h
  · have h := h.2 c
    refine am_aloadr_n (x := some a0) dX0_refusal_4 rfl rfl ?_
    refine fx_gi (k := 39) (f_fldC (ref := "PondHouse") inf_X0 (by decide) q1279 (Or.inl rfl) f_fld0) dX0_refusal_5 h (fun v3 h => ?_)
    refine am_goto (tgt := 36) dX0_refusal_8 (by decide) ?_
    exact am_iret rfl dX0_refusal_36 h
theorem W_X0_apply_f {G : am_G} {d : Nat} {a0 : Nat} {a1 : Int32} {σ : am_S} {Q : Int32 → am_S → Prop} (h : ((a1 < 0 → Q 0 σ) ∧ (¬ a1 < 0 → f_gi σ (some a0) [0] 25 (fun v1 => ((v1 ≤ a1 → Q 0 σ) ∧ (¬ v1 ≤ a1 → f_gr σ (some a0) [0] 27 (fun v2 => ((v2 = none → f_gr σ (some a0) [0] 24 (fun v3 => f_ar σ v3 14 a1 (fun v4 => f_p σ (some a0) [0] 27 (va_rf v4) (fun σ5 => f_gr σ5 (some a0) [0] 27 (fun v6 => f_p σ5 v6 [24] 1 (.int 1) (fun σ7 => f_gr σ7 (some a0) [0] 27 (fun v8 => f_p σ7 v8 [24] 2 (.int 0) (fun σ9 => Q 1 σ9)))))))) ∧ (¬ v2 = none → Q 0 σ))))))))) : W_X0_apply G d a0 a1 σ Q := by
  unfold W_X0_apply
  refine am_iload_n (x := a1) dX0_apply_0 rfl rfl ?_
  refine am_if_lt (tgt := 19) dX0_apply_1 (by decide) (fun c => ?_) (fun c => ?_)
  · have h := h.1 c
    refine am_iconst (v := 0) dX0_apply_19 (by decide) ?_
    exact am_zret rfl rfl dX0_apply_20 h
  · have h := h.2 c
    refine am_iload_n (x := a1) dX0_apply_4 rfl rfl ?_
    refine am_aloadr_n (x := some a0) dX0_apply_5 rfl rfl ?_
    refine fx_gi (k := 25) (f_fldC (ref := "PondHouse") inf_X0 (by decide) q1265 (Or.inl rfl) f_fld0) dX0_apply_6 h (fun v1 h => ?_)
    refine am_icmp_ge (tgt := 19) dX0_apply_9 (by decide) (fun c => ?_) (fun c => ?_)
    · have h := h.1 c
      refine am_iconst (v := 0) dX0_apply_19 (by decide) ?_
      exact am_zret rfl rfl dX0_apply_20 h
    · have h := h.2 c
      refine am_aloadr_n (x := some a0) dX0_apply_12 rfl rfl ?_
      refine fx_gr (k := 27) (f_fldC (ref := "PondHouse") inf_X0 (by decide) q1267 (Or.inl rfl) f_fld0) dX0_apply_13 h (fun v2 h => ?_)
      refine am_ifnullr (tgt := 21) dX0_apply_16 (by decide) (fun c => ?_) (fun c => ?_)
      · have h := h.1 c
        refine am_aloadr_n (x := some a0) dX0_apply_21 rfl rfl ?_
        refine am_aloadr_n (x := some a0) dX0_apply_22 rfl rfl ?_
        refine fx_gr (k := 24) (f_fldC (ref := "PondHouse") inf_X0 (by decide) q1264 (Or.inl rfl) f_fld0) dX0_apply_23 h (fun v3 h => ?_)
        refine am_iload_n (x := a1) dX0_apply_26 rfl rfl ?_
        refine fx_ar (τ := 14) rfl rfl dX0_apply_27 h (fun v4 h => ?_)
        refine fx_p (k := 27) (v := va_rf v4) (f_putC inf_X0 (by decide) (f_nrf _ _) (f_frf _ _) q1267 (Or.inl rfl) f_put0) dX0_apply_28 h (fun σ5 h => ?_)
        refine am_aloadr_n (x := some a0) dX0_apply_31 rfl rfl ?_
        refine fx_gr (k := 27) (f_fldC (ref := "PondHouse") inf_X0 (by decide) q1267 (Or.inl rfl) f_fld0) dX0_apply_32 h (fun v6 h => ?_)
        refine am_iconst (v := 1) dX0_apply_35 (by decide) ?_
        refine fx_p (k := 1) (v := .int 1) (f_putC inf_X26 (by decide) rfl rfl q2217 (Or.inl rfl) f_put0) dX0_apply_36 h (fun σ7 h => ?_)
        refine am_aloadr_n (x := some a0) dX0_apply_39 rfl rfl ?_
        refine fx_gr (k := 27) (f_fldC (ref := "PondHouse") inf_X0 (by decide) q1267 (Or.inl rfl) f_fld0) dX0_apply_40 h (fun v8 h => ?_)
        refine am_iconst (v := 0) dX0_apply_43 (by decide) ?_
        refine fx_p (k := 2) (v := .int 0) (f_putC inf_X26 (by decide) rfl rfl q2218 (Or.inl rfl) f_put0) dX0_apply_44 h (fun σ9 h => ?_)
        refine am_iconst (v := 1) dX0_apply_47 (by decide) ?_
        exact am_zret rfl rfl dX0_apply_48 h
      · have h := h.2 c
        refine am_iconst (v := 0) dX0_apply_19 (by decide) ?_
        exact am_zret rfl rfl dX0_apply_20 h
theorem W_X0_applied_f {G : am_G} {d : Nat} {a0 : Nat} {a1 : Int32} {σ : am_S} {Q : Int32 → am_S → Prop} (h : ((a1 < 0 → Q (-1) σ) ∧ (¬ a1 < 0 → f_gi σ (some a0) [0] 25 (fun v1 => ((v1 ≤ a1 → Q (-1) σ) ∧ (¬ v1 ≤ a1 → f_gr σ (some a0) [0] 24 (fun v2 => f_ar σ v2 14 a1 (fun v3 => f_gi σ v3 [24] 1 (fun v4 => Q v4 σ))))))))) : W_X0_applied G d a0 a1 σ Q := by
  unfold W_X0_applied
  refine am_iload_n (x := a1) dX0_applied_0 rfl rfl ?_
  refine am_if_lt (tgt := 24) dX0_applied_1 (by decide) (fun c => ?_) (fun c => ?_)
  · have h := h.1 c
    refine am_iconst (v := (-1)) dX0_applied_24 (by decide) ?_
    exact am_iret rfl dX0_applied_25 h
  · have h := h.2 c
    refine am_iload_n (x := a1) dX0_applied_4 rfl rfl ?_
    refine am_aloadr_n (x := some a0) dX0_applied_5 rfl rfl ?_
    refine fx_gi (k := 25) (f_fldC (ref := "PondHouse") inf_X0 (by decide) q1265 (Or.inl rfl) f_fld0) dX0_applied_6 h (fun v1 h => ?_)
    refine am_icmp_ge (tgt := 24) dX0_applied_9 (by decide) (fun c => ?_) (fun c => ?_)
    · have h := h.1 c
      refine am_iconst (v := (-1)) dX0_applied_24 (by decide) ?_
      exact am_iret rfl dX0_applied_25 h
    · have h := h.2 c
      refine am_aloadr_n (x := some a0) dX0_applied_12 rfl rfl ?_
      refine fx_gr (k := 24) (f_fldC (ref := "PondHouse") inf_X0 (by decide) q1264 (Or.inl rfl) f_fld0) dX0_applied_13 h (fun v2 h => ?_)
      refine am_iload_n (x := a1) dX0_applied_16 rfl rfl ?_
      refine fx_ar (τ := 14) rfl rfl dX0_applied_17 h (fun v3 h => ?_)
      refine fx_gi (k := 1) (f_fldC (ref := "PondHouse$Patch") inf_X26 (by decide) q2217 (Or.inl rfl) f_fld0) dX0_applied_18 h (fun v4 h => ?_)
      refine am_goto (tgt := 25) dX0_applied_21 (by decide) ?_
      exact am_iret rfl dX0_applied_25 h
theorem W_X0_outcome_f {G : am_G} {d : Nat} {a0 : Nat} {a1 : Int32} {σ : am_S} {Q : Int32 → am_S → Prop} (h : f_gi σ (some a0) [0] 36 (fun v1 => ((v1 = 0 → Q (-1) σ) ∧ (¬ v1 = 0 → ((a1 < 0 → Q (-1) σ) ∧ (¬ a1 < 0 → f_gi σ (some a0) [0] 6 (fun v2 => ((a1 < v2 → f_gr σ (some a0) [0] 38 (fun v3 => f_ai σ v3 0 a1 (fun v4 => Q v4 σ))) ∧ (¬ a1 < v2 → Q (-1) σ))))))))) : W_X0_outcome G d a0 a1 σ Q := by
  unfold W_X0_outcome
  refine am_aloadr_n (x := some a0) dX0_outcome_0 rfl rfl ?_
  refine fx_gi (k := 36) (f_fldC (ref := "PondHouse") inf_X0 (by decide) q1276 (Or.inl rfl) f_fld0) dX0_outcome_1 h (fun v1 h => ?_)
  refine am_if_eq (tgt := 19) dX0_outcome_4 (by decide) (fun c => ?_) (fun c => ?_)
  · have h := h.1 c
    refine am_iconst (v := (-1)) dX0_outcome_19 (by decide) ?_
    refine am_goto (tgt := 29) dX0_outcome_20 (by decide) ?_
    exact am_iret rfl dX0_outcome_29 h
  · have h := h.2 c
    refine am_iload_n (x := a1) dX0_outcome_7 rfl rfl ?_
    refine am_if_lt (tgt := 19) dX0_outcome_8 (by decide) (fun c => ?_) (fun c => ?_)
    · have h := h.1 c
      refine am_iconst (v := (-1)) dX0_outcome_19 (by decide) ?_
      refine am_goto (tgt := 29) dX0_outcome_20 (by decide) ?_
      exact am_iret rfl dX0_outcome_29 h
    · have h := h.2 c
      refine am_iload_n (x := a1) dX0_outcome_11 rfl rfl ?_
      refine am_aloadr_n (x := some a0) dX0_outcome_12 rfl rfl ?_
      refine fx_gi (k := 6) (f_fldC (ref := "PondHouse") inf_X0 (by decide) q1243 (Or.inl rfl) f_fld0) dX0_outcome_13 h (fun v2 h => ?_)
      refine am_icmp_lt (tgt := 23) dX0_outcome_16 (by decide) (fun c => ?_) (fun c => ?_)
      · have h := h.1 c
        refine am_aloadr_n (x := some a0) dX0_outcome_23 rfl rfl ?_
        refine fx_gr (k := 38) (f_fldC (ref := "PondHouse") inf_X0 (by decide) q1278 (Or.inl rfl) f_fld0) dX0_outcome_24 h (fun v3 h => ?_)
        refine am_iload_n (x := a1) dX0_outcome_27 rfl rfl ?_
        refine fx_ai0 dX0_outcome_28 h (fun v4 h => ?_)
        exact am_iret rfl dX0_outcome_29 h
      · have h := h.2 c
        refine am_iconst (v := (-1)) dX0_outcome_19 (by decide) ?_
        refine am_goto (tgt := 29) dX0_outcome_20 (by decide) ?_
        exact am_iret rfl dX0_outcome_29 h
theorem W_X0_ran_f {G : am_G} {d : Nat} {a0 : Nat} {a1 : Int32} {a2 : Int32} {σ : am_S} {Q : Int32 → am_S → Prop} (h : ((a1 < 0 → Q (-1) σ) ∧ (¬ a1 < 0 → f_gi σ (some a0) [0] 14 (fun v1 => ((v1 ≤ a1 → Q (-1) σ) ∧ (¬ v1 ≤ a1 → ((a2 < 0 → Q (-1) σ) ∧ (¬ a2 < 0 → ((4 ≤ a2 → Q (-1) σ) ∧ (¬ 4 ≤ a2 → f_gr σ (some a0) [0] 13 (fun v2 => f_ai σ v2 0 ((4 * a1) + a2) (fun v3 => Q v3 σ)))))))))))) : W_X0_ran G d a0 a1 a2 σ Q := by
  unfold W_X0_ran
  refine am_iload_n (x := a1) dX0_ran_0 rfl rfl ?_
  refine am_if_lt (tgt := 34) dX0_ran_1 (by decide) (fun c => ?_) (fun c => ?_)
  · have h := h.1 c
    refine am_iconst (v := (-1)) dX0_ran_34 (by decide) ?_
    exact am_iret rfl dX0_ran_35 h
  · have h := h.2 c
    refine am_iload_n (x := a1) dX0_ran_4 rfl rfl ?_
    refine am_aloadr_n (x := some a0) dX0_ran_5 rfl rfl ?_
    refine fx_gi (k := 14) (f_fldC (ref := "PondHouse") inf_X0 (by decide) q1252 (Or.inl rfl) f_fld0) dX0_ran_6 h (fun v1 h => ?_)
    refine am_icmp_ge (tgt := 34) dX0_ran_9 (by decide) (fun c => ?_) (fun c => ?_)
    · have h := h.1 c
      refine am_iconst (v := (-1)) dX0_ran_34 (by decide) ?_
      exact am_iret rfl dX0_ran_35 h
    · have h := h.2 c
      refine am_iload_n (x := a2) dX0_ran_12 rfl rfl ?_
      refine am_if_lt (tgt := 34) dX0_ran_13 (by decide) (fun c => ?_) (fun c => ?_)
      · have h := h.1 c
        refine am_iconst (v := (-1)) dX0_ran_34 (by decide) ?_
        exact am_iret rfl dX0_ran_35 h
      · have h := h.2 c
        refine am_iload_n (x := a2) dX0_ran_16 rfl rfl ?_
        refine am_iconst (v := 4) dX0_ran_17 (by decide) ?_
        refine am_icmp_ge (tgt := 34) dX0_ran_18 (by decide) (fun c => ?_) (fun c => ?_)
        · have h := h.1 c
          refine am_iconst (v := (-1)) dX0_ran_34 (by decide) ?_
          exact am_iret rfl dX0_ran_35 h
        · have h := h.2 c
          refine am_aloadr_n (x := some a0) dX0_ran_21 rfl rfl ?_
          refine fx_gr (k := 13) (f_fldC (ref := "PondHouse") inf_X0 (by decide) q1251 (Or.inl rfl) f_fld0) dX0_ran_22 h (fun v2 h => ?_)
          refine am_iconst (v := 4) dX0_ran_25 (by decide) ?_
          refine am_iload_n (x := a1) dX0_ran_26 rfl rfl ?_
          refine am_imul dX0_ran_27 ?_
          refine am_iload_n (x := a2) dX0_ran_28 rfl rfl ?_
          refine am_iadd dX0_ran_29 ?_
          refine fx_ai0 dX0_ran_30 h (fun v3 h => ?_)
          refine am_goto (tgt := 35) dX0_ran_31 (by decide) ?_
          exact am_iret rfl dX0_ran_35 h
theorem W_X0_init_f {G : am_G} {d : Nat} {a0 : Nat} {σ : am_S} {Q : am_S → Prop} (h : f_na G σ 5 f_a0r 40 (fun n1 σ2 => f_p σ2 (some a0) [0] 0 (va_rf (some n1)) (fun σ3 => f_na G σ3 5 f_a0r 22 (fun n4 σ5 => f_sK G σ5 (some n4) 0 1 (fun σ6 => f_sK G σ6 (some n4) 1 2 (fun σ7 => f_sK G σ7 (some n4) 2 3 (fun σ8 => f_sK G σ8 (some n4) 3 4 (fun σ9 => f_sK G σ9 (some n4) 4 5 (fun σ10 => f_sK G σ10 (some n4) 5 6 (fun σ11 => f_sK G σ11 (some n4) 6 7 (fun σ12 => f_sK G σ12 (some n4) 7 8 (fun σ13 => f_sK G σ13 (some n4) 8 9 (fun σ14 => f_sK G σ14 (some n4) 9 10 (fun σ15 => f_sK G σ15 (some n4) 10 11 (fun σ16 => f_sK G σ16 (some n4) 11 12 (fun σ17 => f_sK G σ17 (some n4) 12 13 (fun σ18 => f_sK G σ18 (some n4) 13 14 (fun σ19 => f_sK G σ19 (some n4) 14 15 (fun σ20 => f_sK G σ20 (some n4) 15 16 (fun σ21 => f_sK G σ21 (some n4) 16 17 (fun σ22 => f_sK G σ22 (some n4) 17 18 (fun σ23 => f_sK G σ23 (some n4) 18 19 (fun σ24 => f_sK G σ24 (some n4) 19 20 (fun σ25 => f_sK G σ25 (some n4) 20 21 (fun σ26 => f_sK G σ26 (some n4) 21 22 (fun σ27 => f_p σ27 (some a0) [0] 2 (va_rf (some n4)) (fun σ28 => f_na G σ28 9 f_a0r 0 (fun n29 σ30 => f_p σ30 (some a0) [0] 3 (va_rf (some n29)) (fun σ31 => f_na G σ31 11 f_a0r 0 (fun n32 σ33 => f_p σ33 (some a0) [0] 4 (va_rf (some n32)) (fun σ34 => f_na G σ34 12 f_a0r 40 (fun n35 σ36 => f_p σ36 (some a0) [0] 5 (va_rf (some n35)) (fun σ37 => f_na G σ37 13 f_a0r 21 (fun n38 σ39 => f_p σ39 (some a0) [0] 7 (va_rf (some n38)) (fun σ40 => f_new G σ40 1 5 tyX1 (fun n41 σ42 => W_X1_init G d n41 σ42 (fun σ44 => f_p σ44 (some a0) [0] 8 (va_rf (some n41)) (fun σ47 => f_new G σ47 2 8 tyX2 (fun n48 σ49 => W_X2_init G d n48 σ49 (fun σ51 => f_p σ51 (some a0) [0] 9 (va_rf (some n48)) (fun σ54 => f_na G σ54 0 f_a0i 200 (fun n55 σ56 => f_p σ56 (some a0) [0] 13 (va_rf (some n55)) (fun σ57 => f_na G σ57 1 f_a0i 1000 (fun n58 σ59 => f_p σ59 (some a0) [0] 17 (va_rf (some n58)) (fun σ60 => f_p σ60 (some a0) [0] 20 (.int (-1)) (fun σ61 => f_new G σ61 3 8 tyX3 (fun n62 σ63 => W_X3_init G d n62 σ63 (fun σ65 => f_p σ65 (some a0) [0] 21 (va_rf (some n62)) (fun σ68 => f_new G σ68 4 8 tyX4 (fun n69 σ70 => W_X4_init G d n69 (some a0) σ70 (fun σ72 => f_p σ72 (some a0) [0] 22 (va_rf (some n69)) (fun σ75 => f_new G σ75 5 9 tyX5 (fun n76 σ77 => W_X5_init G d n76 σ77 (fun σ79 => f_p σ79 (some a0) [0] 23 (va_rf (some n76)) (fun σ82 => f_na G σ82 14 f_a0r 6 (fun n83 σ84 => f_p σ84 (some a0) [0] 24 (va_rf (some n83)) (fun σ85 => f_mna G σ85 17 0 f_a0i 40 40 (fun n86 σ87 => f_p σ87 (some a0) [0] 28 (va_rf (some n86)) (fun σ88 => f_mna G σ88 18 3 f_a0i 40 40 (fun n89 σ90 => f_p σ90 (some a0) [0] 29 (va_rf (some n89)) (fun σ91 => f_na G σ91 9 f_a0r 40 (fun n92 σ93 => f_p σ93 (some a0) [0] 30 (va_rf (some n92)) (fun σ94 => f_na G σ94 17 f_a0r 40 (fun n95 σ96 => f_p σ96 (some a0) [0] 31 (va_rf (some n95)) (fun σ97 => f_na G σ97 15 f_a0r 10 (fun n98 σ99 => f_p σ99 (some a0) [0] 35 (va_rf (some n98)) (fun σ100 => f_p σ100 (some a0) [0] 37 (.int (-1)) (fun σ101 => f_na G σ101 0 f_a0i 40 (fun n102 σ103 => f_p σ103 (some a0) [0] 38 (va_rf (some n102)) (fun σ104 => f_p σ104 (some a0) [0] 40 (.int (-1)) (fun σ105 => f_p σ105 (some a0) [0] 41 (.int (-1)) (fun σ106 => B_X0_init_368 G (d + 1) a0 0 σ106 Q)))))))))))))))))))))))))))))))))))))))))))))))))))))))))))))))))))))))) : W_X0_init G (d + 1) a0 σ Q := by
  unfold W_X0_init
  refine am_aloadr_n (x := some a0) dX0_init_0 rfl rfl ?_
  refine am_objInit q1057 q304 q305 (Nat.le_of_ble_eq_true rfl) dX0_init_1 ?_
  refine am_aloadr_n (x := some a0) dX0_init_4 rfl rfl ?_
  refine am_bipush (v := 40) dX0_init_5 (by decide) ?_
  refine fx_nar (τ := 5) q1058 q1059 rfl dX0_init_7 h (fun n1 σ2 h => ?_)
  refine fx_p (k := 0) (v := va_rf (some n1)) (f_putC inf_X0 (by decide) (f_nra _ _) (f_fra _ _) q1236 (Or.inr ⟨rfl, rfl, rfl⟩) f_put0) dX0_init_10 h (fun σ3 h => ?_)
  refine am_aloadr_n (x := some a0) dX0_init_13 rfl rfl ?_
  refine am_bipush (v := 22) dX0_init_14 (by decide) ?_
  refine fx_nar (τ := 5) q1058 q1059 rfl dX0_init_16 h (fun n4 σ5 h => ?_)
  refine am_dup dX0_init_19 (am_rf_cat _) ?_
  refine am_iconst (v := 0) dX0_init_20 (by decide) ?_
  refine am_ldcwS (i := 1) rfl q1060 dX0_init_21 ?_
  refine fx_sK (j := 1) (by decide) dX0_init_24 h (fun σ6 h => ?_)
  refine am_dup dX0_init_25 (am_rf_cat _) ?_
  refine am_iconst (v := 1) dX0_init_26 (by decide) ?_
  refine am_ldcwS (i := 2) rfl q1061 dX0_init_27 ?_
  refine fx_sK (j := 2) (by decide) dX0_init_30 h (fun σ7 h => ?_)
  refine am_dup dX0_init_31 (am_rf_cat _) ?_
  refine am_iconst (v := 2) dX0_init_32 (by decide) ?_
  refine am_ldcwS (i := 3) rfl q1062 dX0_init_33 ?_
  refine fx_sK (j := 3) (by decide) dX0_init_36 h (fun σ8 h => ?_)
  refine am_dup dX0_init_37 (am_rf_cat _) ?_
  refine am_iconst (v := 3) dX0_init_38 (by decide) ?_
  refine am_ldcwS (i := 4) rfl q1063 dX0_init_39 ?_
  refine fx_sK (j := 4) (by decide) dX0_init_42 h (fun σ9 h => ?_)
  refine am_dup dX0_init_43 (am_rf_cat _) ?_
  refine am_iconst (v := 4) dX0_init_44 (by decide) ?_
  refine am_ldcwS (i := 5) rfl q1064 dX0_init_45 ?_
  refine fx_sK (j := 5) (by decide) dX0_init_48 h (fun σ10 h => ?_)
  refine am_dup dX0_init_49 (am_rf_cat _) ?_
  refine am_iconst (v := 5) dX0_init_50 (by decide) ?_
  refine am_ldcwS (i := 6) rfl q1065 dX0_init_51 ?_
  refine fx_sK (j := 6) (by decide) dX0_init_54 h (fun σ11 h => ?_)
  refine am_dup dX0_init_55 (am_rf_cat _) ?_
  refine am_bipush (v := 6) dX0_init_56 (by decide) ?_
  refine am_ldcwS (i := 7) rfl q1066 dX0_init_58 ?_
  refine fx_sK (j := 7) (by decide) dX0_init_61 h (fun σ12 h => ?_)
  refine am_dup dX0_init_62 (am_rf_cat _) ?_
  refine am_bipush (v := 7) dX0_init_63 (by decide) ?_
  refine am_ldcwS (i := 8) rfl q1067 dX0_init_65 ?_
  refine fx_sK (j := 8) (by decide) dX0_init_68 h (fun σ13 h => ?_)
  refine am_dup dX0_init_69 (am_rf_cat _) ?_
  refine am_bipush (v := 8) dX0_init_70 (by decide) ?_
  refine am_ldcwS (i := 9) rfl q1068 dX0_init_72 ?_
  refine fx_sK (j := 9) (by decide) dX0_init_75 h (fun σ14 h => ?_)
  refine am_dup dX0_init_76 (am_rf_cat _) ?_
  refine am_bipush (v := 9) dX0_init_77 (by decide) ?_
  refine am_ldcwS (i := 10) rfl q1069 dX0_init_79 ?_
  refine fx_sK (j := 10) (by decide) dX0_init_82 h (fun σ15 h => ?_)
  refine am_dup dX0_init_83 (am_rf_cat _) ?_
  refine am_bipush (v := 10) dX0_init_84 (by decide) ?_
  refine am_ldcwS (i := 11) rfl q1070 dX0_init_86 ?_
  refine fx_sK (j := 11) (by decide) dX0_init_89 h (fun σ16 h => ?_)
  refine am_dup dX0_init_90 (am_rf_cat _) ?_
  refine am_bipush (v := 11) dX0_init_91 (by decide) ?_
  refine am_ldcwS (i := 12) rfl q1071 dX0_init_93 ?_
  refine fx_sK (j := 12) (by decide) dX0_init_96 h (fun σ17 h => ?_)
  refine am_dup dX0_init_97 (am_rf_cat _) ?_
  refine am_bipush (v := 12) dX0_init_98 (by decide) ?_
  refine am_ldcwS (i := 13) rfl q1072 dX0_init_100 ?_
  refine fx_sK (j := 13) (by decide) dX0_init_103 h (fun σ18 h => ?_)
  refine am_dup dX0_init_104 (am_rf_cat _) ?_
  refine am_bipush (v := 13) dX0_init_105 (by decide) ?_
  refine am_ldcwS (i := 14) rfl q1073 dX0_init_107 ?_
  refine fx_sK (j := 14) (by decide) dX0_init_110 h (fun σ19 h => ?_)
  refine am_dup dX0_init_111 (am_rf_cat _) ?_
  refine am_bipush (v := 14) dX0_init_112 (by decide) ?_
  refine am_ldcwS (i := 15) rfl q1074 dX0_init_114 ?_
  refine fx_sK (j := 15) (by decide) dX0_init_117 h (fun σ20 h => ?_)
  refine am_dup dX0_init_118 (am_rf_cat _) ?_
  refine am_bipush (v := 15) dX0_init_119 (by decide) ?_
  refine am_ldcwS (i := 16) rfl q1075 dX0_init_121 ?_
  refine fx_sK (j := 16) (by decide) dX0_init_124 h (fun σ21 h => ?_)
  refine am_dup dX0_init_125 (am_rf_cat _) ?_
  refine am_bipush (v := 16) dX0_init_126 (by decide) ?_
  refine am_ldcwS (i := 17) rfl q1076 dX0_init_128 ?_
  refine fx_sK (j := 17) (by decide) dX0_init_131 h (fun σ22 h => ?_)
  refine am_dup dX0_init_132 (am_rf_cat _) ?_
  refine am_bipush (v := 17) dX0_init_133 (by decide) ?_
  refine am_ldcwS (i := 18) rfl q1077 dX0_init_135 ?_
  refine fx_sK (j := 18) (by decide) dX0_init_138 h (fun σ23 h => ?_)
  refine am_dup dX0_init_139 (am_rf_cat _) ?_
  refine am_bipush (v := 18) dX0_init_140 (by decide) ?_
  refine am_ldcwS (i := 19) rfl q1078 dX0_init_142 ?_
  refine fx_sK (j := 19) (by decide) dX0_init_145 h (fun σ24 h => ?_)
  refine am_dup dX0_init_146 (am_rf_cat _) ?_
  refine am_bipush (v := 19) dX0_init_147 (by decide) ?_
  refine am_ldcwS (i := 20) rfl q1079 dX0_init_149 ?_
  refine fx_sK (j := 20) (by decide) dX0_init_152 h (fun σ25 h => ?_)
  refine am_dup dX0_init_153 (am_rf_cat _) ?_
  refine am_bipush (v := 20) dX0_init_154 (by decide) ?_
  refine am_ldcwS (i := 21) rfl q1080 dX0_init_156 ?_
  refine fx_sK (j := 21) (by decide) dX0_init_159 h (fun σ26 h => ?_)
  refine am_dup dX0_init_160 (am_rf_cat _) ?_
  refine am_bipush (v := 21) dX0_init_161 (by decide) ?_
  refine am_ldcwS (i := 22) rfl q1081 dX0_init_163 ?_
  refine fx_sK (j := 22) (by decide) dX0_init_166 h (fun σ27 h => ?_)
  refine fx_p (k := 2) (v := va_rf (some n4)) (f_putC inf_X0 (by decide) (f_nra _ _) (f_fra _ _) q1239 (Or.inr ⟨rfl, rfl, rfl⟩) f_put0) dX0_init_167 h (fun σ28 h => ?_)
  refine am_aloadr_n (x := some a0) dX0_init_170 rfl rfl ?_
  refine am_iconst (v := 0) dX0_init_171 (by decide) ?_
  refine fx_nar (τ := 9) q861 q862 rfl dX0_init_172 h (fun n29 σ30 h => ?_)
  refine fx_p (k := 3) (v := va_rf (some n29)) (f_putC inf_X0 (by decide) (f_nra _ _) (f_fra _ _) q1240 (Or.inl rfl) f_put0) dX0_init_175 h (fun σ31 h => ?_)
  refine am_aloadr_n (x := some a0) dX0_init_178 rfl rfl ?_
  refine am_iconst (v := 0) dX0_init_179 (by decide) ?_
  refine fx_nar (τ := 11) q276 q277 rfl dX0_init_180 h (fun n32 σ33 h => ?_)
  refine fx_p (k := 4) (v := va_rf (some n32)) (f_putC inf_X0 (by decide) (f_nra _ _) (f_fra _ _) q1241 (Or.inl rfl) f_put0) dX0_init_183 h (fun σ34 h => ?_)
  refine am_aloadr_n (x := some a0) dX0_init_186 rfl rfl ?_
  refine am_bipush (v := 40) dX0_init_187 (by decide) ?_
  refine fx_nar (τ := 12) q1082 q1083 rfl dX0_init_189 h (fun n35 σ36 h => ?_)
  refine fx_p (k := 5) (v := va_rf (some n35)) (f_putC inf_X0 (by decide) (f_nra _ _) (f_fra _ _) q1242 (Or.inr ⟨rfl, rfl, rfl⟩) f_put0) dX0_init_192 h (fun σ37 h => ?_)
  refine am_aloadr_n (x := some a0) dX0_init_195 rfl rfl ?_
  refine am_bipush (v := 21) dX0_init_196 (by decide) ?_
  refine fx_nar (τ := 13) q298 q1084 rfl dX0_init_198 h (fun n38 σ39 h => ?_)
  refine fx_p (k := 7) (v := va_rf (some n38)) (f_putC inf_X0 (by decide) (f_nra _ _) (f_fra _ _) q1244 (Or.inr ⟨rfl, rfl, rfl⟩) f_put0) dX0_init_201 h (fun σ40 h => ?_)
  refine am_aloadr_n (x := some a0) dX0_init_204 rfl rfl ?_
  refine fx_new inf_X1 q298 q299 q162 dX0_init_205 h (fun n41 σ42 h => ?_)
  refine am_dup dX0_init_208 (am_rf_cat _) ?_
  refine fx_callIN (Mc := m_X1_init) (as := []) bm_X1_init q300 q301 rfl rfl (Nat.le_of_ble_eq_true rfl) dX0_init_209 (mt_X1_init (fx_k2v h (fun σ44 h => ?_) (fun q σ' h => h.elim)))
  refine fx_p (k := 8) (v := va_rf (some n41)) (f_putC inf_X0 (by decide) (f_nrf _ _) (f_frf _ _) q1246 (Or.inr ⟨rfl, rfl, rfl⟩) f_put0) dX0_init_212 h (fun σ47 h => ?_)
  refine am_aloadr_n (x := some a0) dX0_init_215 rfl rfl ?_
  refine fx_new inf_X2 q393 q1085 q165 dX0_init_216 h (fun n48 σ49 h => ?_)
  refine am_dup dX0_init_219 (am_rf_cat _) ?_
  refine fx_callI (Mc := m_X2_init) (as := []) bm_X2_init q1123 q1124 rfl rfl (Nat.le_of_ble_eq_true rfl) dX0_init_220 (mt_X2_init (fx_k2v h (fun σ51 h => ?_) (fun q σ' h => h.elim)))
  refine fx_p (k := 9) (v := va_rf (some n48)) (f_putC inf_X0 (by decide) (f_nrf _ _) (f_frf _ _) q1247 (Or.inr ⟨rfl, rfl, rfl⟩) f_put0) dX0_init_223 h (fun σ54 h => ?_)
  refine am_aloadr_n (x := some a0) dX0_init_226 rfl rfl ?_
  refine am_sipush (v := 200) dX0_init_227 (by decide) ?_
  refine fx_nai (atype := .int) (τ := 0) q281 rfl (fun N cA => rfl) dX0_init_230 h (fun n55 σ56 h => ?_)
  refine fx_p (k := 13) (v := va_rf (some n55)) (f_putC inf_X0 (by decide) (f_nra _ _) (f_fra _ _) q1251 (Or.inr ⟨rfl, rfl, rfl⟩) f_put0) dX0_init_232 h (fun σ57 h => ?_)
  refine am_aloadr_n (x := some a0) dX0_init_235 rfl rfl ?_
  refine am_sipush (v := 1000) dX0_init_236 (by decide) ?_
  refine fx_nai (atype := .byte) (τ := 1) q1151 rfl (fun N cA => rfl) dX0_init_239 h (fun n58 σ59 h => ?_)
  refine fx_p (k := 17) (v := va_rf (some n58)) (f_putC inf_X0 (by decide) (f_nra _ _) (f_fra _ _) q1256 (Or.inr ⟨rfl, rfl, rfl⟩) f_put0) dX0_init_241 h (fun σ60 h => ?_)
  refine am_aloadr_n (x := some a0) dX0_init_244 rfl rfl ?_
  refine am_iconst (v := (-1)) dX0_init_245 (by decide) ?_
  refine fx_p (k := 20) (v := .int (-1)) (f_putC inf_X0 (by decide) rfl rfl q1260 (Or.inl rfl) f_put0) dX0_init_246 h (fun σ61 h => ?_)
  refine am_aloadr_n (x := some a0) dX0_init_249 rfl rfl ?_
  refine fx_new inf_X3 q1152 q1153 q166 dX0_init_250 h (fun n62 σ63 h => ?_)
  refine am_dup dX0_init_253 (am_rf_cat _) ?_
  refine fx_callI (Mc := m_X3_init) (as := []) bm_X3_init q1161 q1162 rfl rfl (Nat.le_of_ble_eq_true rfl) dX0_init_254 (mt_X3_init (fx_k2v h (fun σ65 h => ?_) (fun q σ' h => h.elim)))
  refine fx_p (k := 21) (v := va_rf (some n62)) (f_putC inf_X0 (by decide) (f_nrf _ _) (f_frf _ _) q1261 (Or.inr ⟨rfl, rfl, rfl⟩) f_put0) dX0_init_257 h (fun σ68 h => ?_)
  refine am_aloadr_n (x := some a0) dX0_init_260 rfl rfl ?_
  refine fx_new inf_X4 q1173 q1174 q167 dX0_init_261 h (fun n69 σ70 h => ?_)
  refine am_dup dX0_init_264 (am_rf_cat _) ?_
  refine am_aloadr_n (x := some a0) dX0_init_265 rfl rfl ?_
  refine fx_callIN (Mc := m_X4_init) (as := [va_rf (some a0)]) bm_X4_init q1175 q1176 rfl rfl (Nat.le_of_ble_eq_true rfl) dX0_init_266 (mt_X4_init (fx_k2v h (fun σ72 h => ?_) (fun q σ' h => h.elim)))
  refine fx_p (k := 22) (v := va_rf (some n69)) (f_putC inf_X0 (by decide) (f_nrf _ _) (f_frf _ _) q1262 (Or.inr ⟨rfl, rfl, rfl⟩) f_put0) dX0_init_269 h (fun σ75 h => ?_)
  refine am_aloadr_n (x := some a0) dX0_init_272 rfl rfl ?_
  refine fx_new inf_X5 q505 q1205 q168 dX0_init_273 h (fun n76 σ77 h => ?_)
  refine am_dup dX0_init_276 (am_rf_cat _) ?_
  refine fx_callI (Mc := m_X5_init) (as := []) bm_X5_init q1213 q1214 rfl rfl (Nat.le_of_ble_eq_true rfl) dX0_init_277 (mt_X5_init (fx_k2v h (fun σ79 h => ?_) (fun q σ' h => h.elim)))
  refine fx_p (k := 23) (v := va_rf (some n76)) (f_putC inf_X0 (by decide) (f_nrf _ _) (f_frf _ _) q1263 (Or.inr ⟨rfl, rfl, rfl⟩) f_put0) dX0_init_280 h (fun σ82 h => ?_)
  refine am_aloadr_n (x := some a0) dX0_init_283 rfl rfl ?_
  refine am_bipush (v := 6) dX0_init_284 (by decide) ?_
  refine fx_nar (τ := 14) q1228 q1229 rfl dX0_init_286 h (fun n83 σ84 h => ?_)
  refine fx_p (k := 24) (v := va_rf (some n83)) (f_putC inf_X0 (by decide) (f_nra _ _) (f_fra _ _) q1264 (Or.inr ⟨rfl, rfl, rfl⟩) f_put0) dX0_init_289 h (fun σ85 h => ?_)
  refine am_aloadr_n (x := some a0) dX0_init_292 rfl rfl ?_
  refine am_bipush (v := 40) dX0_init_293 (by decide) ?_
  refine am_bipush (v := 40) dX0_init_295 (by decide) ?_
  refine fx_mna (τ := 17) (t := 0) (ty := .int) (x := f_a0i) q1230 (by decide +kernel) q1231 q281 rfl rfl (fun s h => h) (fun s h => h) (fun N cA => ?_) (fun N => rfl) rfl rfl (by decide) dX0_init_297 h (fun n86 σ87 h => ?_)
  · exact arrV_new _ _ _ |>.symm ▸ rfl
  · refine fx_p (k := 28) (v := va_rf (some n86)) (f_putC inf_X0 (by decide) (f_nra _ _) (f_fra _ _) q1268 (Or.inr ⟨rfl, rfl, rfl⟩) f_put0) dX0_init_301 h (fun σ88 h => ?_)
    refine am_aloadr_n (x := some a0) dX0_init_304 rfl rfl ?_
    refine am_bipush (v := 40) dX0_init_305 (by decide) ?_
    refine am_bipush (v := 40) dX0_init_307 (by decide) ?_
    refine fx_mna (τ := 18) (t := 3) (ty := .boolean) (x := f_a0i) q1232 (by decide +kernel) q1233 q282 rfl rfl (fun s h => h) (fun s h => h) (fun N cA => ?_) (fun N => rfl) rfl rfl (by decide) dX0_init_309 h (fun n89 σ90 h => ?_)
    · exact arrV_new _ _ _ |>.symm ▸ rfl
    · refine fx_p (k := 29) (v := va_rf (some n89)) (f_putC inf_X0 (by decide) (f_nra _ _) (f_fra _ _) q1269 (Or.inr ⟨rfl, rfl, rfl⟩) f_put0) dX0_init_313 h (fun σ91 h => ?_)
      refine am_aloadr_n (x := some a0) dX0_init_316 rfl rfl ?_
      refine am_bipush (v := 40) dX0_init_317 (by decide) ?_
      refine fx_nar (τ := 9) q861 q862 rfl dX0_init_319 h (fun n92 σ93 h => ?_)
      refine fx_p (k := 30) (v := va_rf (some n92)) (f_putC inf_X0 (by decide) (f_nra _ _) (f_fra _ _) q1270 (Or.inr ⟨rfl, rfl, rfl⟩) f_put0) dX0_init_322 h (fun σ94 h => ?_)
      refine am_aloadr_n (x := some a0) dX0_init_325 rfl rfl ?_
      refine am_bipush (v := 40) dX0_init_326 (by decide) ?_
      refine fx_naA (τ := 17) (ty := .int) q1234 (by decide +kernel) q1231 rfl (fun s h => h) dX0_init_328 h (fun n95 σ96 h => ?_)
      refine fx_p (k := 31) (v := va_rf (some n95)) (f_putC inf_X0 (by decide) (f_nra _ _) (f_fra _ _) q1271 (Or.inr ⟨rfl, rfl, rfl⟩) f_put0) dX0_init_331 h (fun σ97 h => ?_)
      refine am_aloadr_n (x := some a0) dX0_init_334 rfl rfl ?_
      refine am_bipush (v := 10) dX0_init_335 (by decide) ?_
      refine fx_nar (τ := 15) q296 q1235 rfl dX0_init_337 h (fun n98 σ99 h => ?_)
      refine fx_p (k := 35) (v := va_rf (some n98)) (f_putC inf_X0 (by decide) (f_nra _ _) (f_fra _ _) q1275 (Or.inr ⟨rfl, rfl, rfl⟩) f_put0) dX0_init_340 h (fun σ100 h => ?_)
      refine am_aloadr_n (x := some a0) dX0_init_343 rfl rfl ?_
      refine am_iconst (v := (-1)) dX0_init_344 (by decide) ?_
      refine fx_p (k := 37) (v := .int (-1)) (f_putC inf_X0 (by decide) rfl rfl q1277 (Or.inl rfl) f_put0) dX0_init_345 h (fun σ101 h => ?_)
      refine am_aloadr_n (x := some a0) dX0_init_348 rfl rfl ?_
      refine am_bipush (v := 40) dX0_init_349 (by decide) ?_
      refine fx_nai (atype := .int) (τ := 0) q281 rfl (fun N cA => rfl) dX0_init_351 h (fun n102 σ103 h => ?_)
      refine fx_p (k := 38) (v := va_rf (some n102)) (f_putC inf_X0 (by decide) (f_nra _ _) (f_fra _ _) q1278 (Or.inr ⟨rfl, rfl, rfl⟩) f_put0) dX0_init_353 h (fun σ104 h => ?_)
      refine am_aloadr_n (x := some a0) dX0_init_356 rfl rfl ?_
      refine am_iconst (v := (-1)) dX0_init_357 (by decide) ?_
      refine fx_p (k := 40) (v := .int (-1)) (f_putC inf_X0 (by decide) rfl rfl q1280 (Or.inl rfl) f_put0) dX0_init_358 h (fun σ105 h => ?_)
      refine am_aloadr_n (x := some a0) dX0_init_361 rfl rfl ?_
      refine am_iconst (v := (-1)) dX0_init_362 (by decide) ?_
      refine fx_p (k := 41) (v := .int (-1)) (f_putC inf_X0 (by decide) rfl rfl q1281 (Or.inl rfl) f_put0) dX0_init_363 h (fun σ106 h => ?_)
      refine am_iconst (v := 0) dX0_init_366 (by decide) ?_
      refine am_istore_n (L' := [(2, .int 0), (0, va_rf (some a0))]) dX0_init_367 rfl (Nat.le_of_ble_eq_true rfl) rfl ?_
      exact am_lss h rfl
theorem B_X0_init_368_f {G : am_G} {d : Nat} {a0 : Nat} {x1 : Int32} {σ : am_S} {Q : am_S → Prop} (h : ((20 < x1 → Q σ) ∧ (¬ 20 < x1 → f_gr σ (some a0) [0] 7 (fun v1 => f_new G σ 1 5 tyX1 (fun n2 σ3 => W_X1_init G d n2 σ3 (fun σ5 => f_sr σ5 v1 13 [1] x1 (some n2) (fun σ8 => B_X0_init_368 G (d + 1) a0 (x1 + 1) σ8 Q))))))) : B_X0_init_368 G (d + 1) a0 x1 σ Q := by
  unfold B_X0_init_368
  refine am_iload_n (x := x1) dX0_init_368 rfl rfl ?_
  refine am_bipush (v := 20) dX0_init_369 (by decide) ?_
  refine am_icmp_gt (tgt := 393) dX0_init_371 (by decide) (fun c => ?_) (fun c => ?_)
  · have h := h.1 c
    exact am_vret rfl dX0_init_393 h
  · have h := h.2 c
    refine am_aloadr_n (x := some a0) dX0_init_374 rfl rfl ?_
    refine fx_gr (k := 7) (f_fldC (ref := "PondHouse") inf_X0 (by decide) q1244 (Or.inl rfl) f_fld0) dX0_init_375 h (fun v1 h => ?_)
    refine am_iload_n (x := x1) dX0_init_378 rfl rfl ?_
    refine fx_new inf_X1 q298 q299 q162 dX0_init_379 h (fun n2 σ3 h => ?_)
    refine am_dup dX0_init_382 (am_rf_cat _) ?_
    refine fx_callIN (Mc := m_X1_init) (as := []) bm_X1_init q300 q301 rfl rfl (Nat.le_of_ble_eq_true rfl) dX0_init_383 (mt_X1_init (fx_k2v h (fun σ5 h => ?_) (fun q σ' h => h.elim)))
    refine fx_sr (τ := 13) (E := "PondHouse$Frame") (cs := [1]) (v := (some n2)) rfl (f_clsC inf_X1 (Or.inl rfl) f_cls0) dX0_init_386 h (fun σ8 h => ?_)
    refine am_iinc (x := x1) (v := (x1 + 1)) (L' := [(2, .int (x1 + 1)), (0, va_rf (some a0))]) dX0_init_387 rfl rfl (Nat.le_of_ble_eq_true rfl) rfl ?_
    refine am_goto (tgt := 368) dX0_init_390 (by decide) ?_
    exact am_lss h rfl
theorem W_X0_feed_f {G : am_G} {d : Nat} {a0 : Nat} {a1 : Int32} {a2 : Int32} {a3 : Int32} {a4 : Int32} {a5 : Int32} {σ : am_S} {Q : Int32 → am_S → Prop} (h : f_gi σ (some a0) [0] 18 (fun v1 => (((v1 + 20) ≤ 1000 → f_o σ (some a0) [0] (fun b => W_X0_puts G d b a1 σ (fun σ3 => f_o σ3 (some a0) [0] (fun b => W_X0_puts G d b a2 σ3 (fun σ7 => f_o σ7 (some a0) [0] (fun b => W_X0_puts G d b a3 σ7 (fun σ11 => f_o σ11 (some a0) [0] (fun b => W_X0_puts G d b a4 σ11 (fun σ15 => f_o σ15 (some a0) [0] (fun b => W_X0_puts G d b a5 σ15 (fun σ19 => f_gi σ19 (some a0) [0] 18 (fun v22 => Q v22 σ19)))))))))))) ∧ (¬ (v1 + 20) ≤ 1000 → Q (-1) σ)))) : W_X0_feed G (d + 1) a0 a1 a2 a3 a4 a5 σ Q := by
  unfold W_X0_feed
  refine am_aloadr_n (x := some a0) dX0_feed_0 rfl rfl ?_
  refine fx_gi (k := 18) (f_fldC (ref := "PondHouse") inf_X0 (by decide) q1258 (Or.inl rfl) f_fld0) dX0_feed_1 h (fun v1 h => ?_)
  refine am_bipush (v := 20) dX0_feed_4 (by decide) ?_
  refine am_iadd dX0_feed_6 ?_
  refine am_sipush (v := 1000) dX0_feed_7 (by decide) ?_
  refine am_icmp_le (tgt := 15) dX0_feed_10 (by decide) (fun c => ?_) (fun c => ?_)
  · have h := h.1 c
    refine am_aloadr_n (x := some a0) dX0_feed_15 rfl rfl ?_
    refine am_iload_n (x := a1) dX0_feed_16 rfl rfl ?_
    refine fx_callV (Mc := m_X0_puts) (as := [.int a1]) (cs := [0]) (r := (some a0)) (f_clsC inf_X0 qs35 f_cls0) bm_X0_puts q1380 q1382 (Nat.le_of_ble_eq_true rfl) dX0_feed_17 h (fun b h => mt_X0_puts (fx_k2v h (fun σ3 h => ?_) (fun q σ' h => h.elim)))
    refine am_aloadr_n (x := some a0) dX0_feed_20 rfl rfl ?_
    refine am_iload_n (x := a2) dX0_feed_21 rfl rfl ?_
    refine fx_callV (Mc := m_X0_puts) (as := [.int a2]) (cs := [0]) (r := (some a0)) (f_clsC inf_X0 qs35 f_cls0) bm_X0_puts q1380 q1382 (Nat.le_of_ble_eq_true rfl) dX0_feed_22 h (fun b h => mt_X0_puts (fx_k2v h (fun σ7 h => ?_) (fun q σ' h => h.elim)))
    refine am_aloadr_n (x := some a0) dX0_feed_25 rfl rfl ?_
    refine am_iload_n (x := a3) dX0_feed_26 rfl rfl ?_
    refine fx_callV (Mc := m_X0_puts) (as := [.int a3]) (cs := [0]) (r := (some a0)) (f_clsC inf_X0 qs35 f_cls0) bm_X0_puts q1380 q1382 (Nat.le_of_ble_eq_true rfl) dX0_feed_27 h (fun b h => mt_X0_puts (fx_k2v h (fun σ11 h => ?_) (fun q σ' h => h.elim)))
    refine am_aloadr_n (x := some a0) dX0_feed_30 rfl rfl ?_
    refine am_iload (x := a4) dX0_feed_31 rfl ?_
    refine fx_callV (Mc := m_X0_puts) (as := [.int a4]) (cs := [0]) (r := (some a0)) (f_clsC inf_X0 qs35 f_cls0) bm_X0_puts q1380 q1382 (Nat.le_of_ble_eq_true rfl) dX0_feed_33 h (fun b h => mt_X0_puts (fx_k2v h (fun σ15 h => ?_) (fun q σ' h => h.elim)))
    refine am_aloadr_n (x := some a0) dX0_feed_36 rfl rfl ?_
    refine am_iload (x := a5) dX0_feed_37 rfl ?_
    refine fx_callV (Mc := m_X0_puts) (as := [.int a5]) (cs := [0]) (r := (some a0)) (f_clsC inf_X0 qs35 f_cls0) bm_X0_puts q1380 q1382 (Nat.le_of_ble_eq_true rfl) dX0_feed_39 h (fun b h => mt_X0_puts (fx_k2v h (fun σ19 h => ?_) (fun q σ' h => h.elim)))
    refine am_aloadr_n (x := some a0) dX0_feed_42 rfl rfl ?_
    refine fx_gi (k := 18) (f_fldC (ref := "PondHouse") inf_X0 (by decide) q1258 (Or.inl rfl) f_fld0) dX0_feed_43 h (fun v22 h => ?_)
    exact am_iret rfl dX0_feed_46 h
  · have h := h.2 c
    refine am_iconst (v := (-1)) dX0_feed_13 (by decide) ?_
    exact am_iret rfl dX0_feed_14 h
theorem W_X0_puts_f {G : am_G} {d : Nat} {a0 : Nat} {a1 : Int32} {σ : am_S} {Q : am_S → Prop} (h : B_X0_puts_3 G d a0 a1 24 σ Q) : W_X0_puts G d a0 a1 σ Q := by
  unfold W_X0_puts
  refine am_bipush (v := 24) dX0_puts_0 (by decide) ?_
  refine am_istore_n (L' := [(4, .int 24), (0, va_rf (some a0)), (2, .int a1)]) dX0_puts_2 rfl (Nat.le_of_ble_eq_true rfl) rfl ?_
  exact am_lss h rfl
theorem B_X0_puts_3_f {G : am_G} {d : Nat} {a0 : Nat} {x1 : Int32} {x2 : Int32} {σ : am_S} {Q : am_S → Prop} (h : ((x2 < 0 → Q σ) ∧ (¬ x2 < 0 → f_gr σ (some a0) [0] 17 (fun v1 => f_gi σ (some a0) [0] 18 (fun v2 => f_si σ v1 1 v2 ((Int32.toInt8 (x1 >>> (x2 &&& 31))).toInt32) (fun σ3 => f_gi σ3 (some a0) [0] 18 (fun v4 => f_p σ3 (some a0) [0] 18 (.int (v4 + 1)) (fun σ5 => B_X0_puts_3 G d a0 x1 (x2 + (-8)) σ5 Q)))))))) : B_X0_puts_3 G d a0 x1 x2 σ Q := by
  unfold B_X0_puts_3
  refine am_iload_n (x := x2) dX0_puts_3 rfl rfl ?_
  refine am_if_lt (tgt := 36) dX0_puts_4 (by decide) (fun c => ?_) (fun c => ?_)
  · have h := h.1 c
    exact am_vret rfl dX0_puts_36 h
  · have h := h.2 c
    refine am_aloadr_n (x := some a0) dX0_puts_7 rfl rfl ?_
    refine fx_gr (k := 17) (f_fldC (ref := "PondHouse") inf_X0 (by decide) q1256 (Or.inl rfl) f_fld0) dX0_puts_8 h (fun v1 h => ?_)
    refine am_aloadr_n (x := some a0) dX0_puts_11 rfl rfl ?_
    refine fx_gi (k := 18) (f_fldC (ref := "PondHouse") inf_X0 (by decide) q1258 (Or.inl rfl) f_fld0) dX0_puts_12 h (fun v2 h => ?_)
    refine am_iload_n (x := x1) dX0_puts_15 rfl rfl ?_
    refine am_iload_n (x := x2) dX0_puts_16 rfl rfl ?_
    refine am_ishr dX0_puts_17 ?_
    refine am_i2b dX0_puts_18 rfl ?_
    refine fx_si1 dX0_puts_19 h (fun σ3 h => ?_)
    refine am_aloadr_n (x := some a0) dX0_puts_20 rfl rfl ?_
    refine am_dup dX0_puts_21 (am_rf_cat _) ?_
    refine fx_gi (k := 18) (f_fldC (ref := "PondHouse") inf_X0 (by decide) q1258 (Or.inl rfl) f_fld0) dX0_puts_22 h (fun v4 h => ?_)
    refine am_iconst (v := 1) dX0_puts_25 (by decide) ?_
    refine am_iadd dX0_puts_26 ?_
    refine fx_p (k := 18) (v := .int (v4 + 1)) (f_putC inf_X0 (by decide) rfl rfl q1258 (Or.inl rfl) f_put0) dX0_puts_27 h (fun σ5 h => ?_)
    refine am_iinc (x := x2) (v := (x2 + (-8))) (L' := [(4, .int (x2 + (-8))), (0, va_rf (some a0)), (2, .int x1)]) dX0_puts_30 rfl rfl (Nat.le_of_ble_eq_true rfl) rfl ?_
    refine am_goto (tgt := 3) dX0_puts_33 (by decide) ?_
    exact am_lss h rfl
theorem W_X0_end_f {G : am_G} {d : Nat} {a0 : Nat} {a1 : Int32} {σ : am_S} {Q : Int32 → am_S → Prop} (h : ((a1 < 0 → Q 0 σ) ∧ (¬ a1 < 0 → f_gi σ (some a0) [0] 18 (fun v1 => ((a1 ≤ v1 → f_p σ (some a0) [0] 18 (.int a1) (fun σ2 => Q 1 σ2)) ∧ (¬ a1 ≤ v1 → Q 0 σ)))))) : W_X0_end G d a0 a1 σ Q := by
  unfold W_X0_end
  refine am_iload_n (x := a1) dX0_end_0 rfl rfl ?_
  refine am_if_lt (tgt := 12) dX0_end_1 (by decide) (fun c => ?_) (fun c => ?_)
  · have h := h.1 c
    refine am_iconst (v := 0) dX0_end_12 (by decide) ?_
    exact am_zret rfl rfl dX0_end_13 h
  · have h := h.2 c
    refine am_iload_n (x := a1) dX0_end_4 rfl rfl ?_
    refine am_aloadr_n (x := some a0) dX0_end_5 rfl rfl ?_
    refine fx_gi (k := 18) (f_fldC (ref := "PondHouse") inf_X0 (by decide) q1258 (Or.inl rfl) f_fld0) dX0_end_6 h (fun v1 h => ?_)
    refine am_icmp_le (tgt := 14) dX0_end_9 (by decide) (fun c => ?_) (fun c => ?_)
    · have h := h.1 c
      refine am_aloadr_n (x := some a0) dX0_end_14 rfl rfl ?_
      refine am_iload_n (x := a1) dX0_end_15 rfl rfl ?_
      refine fx_p (k := 18) (v := .int a1) (f_putC inf_X0 (by decide) rfl rfl q1258 (Or.inl rfl) f_put0) dX0_end_16 h (fun σ2 h => ?_)
      refine am_iconst (v := 1) dX0_end_19 (by decide) ?_
      exact am_zret rfl rfl dX0_end_20 h
    · have h := h.2 c
      refine am_iconst (v := 0) dX0_end_12 (by decide) ?_
      exact am_zret rfl rfl dX0_end_13 h
theorem W_X0_word_f {G : am_G} {d : Nat} {a0 : Nat} {σ : am_S} {Q : Int32 → am_S → Prop} (h : f_gr σ (some a0) [0] 22 (fun v1 => f_o σ v1 [4] (fun b => W_X4_begins G d b σ (fun σ3 => f_gr σ3 (some a0) [0] 22 (fun v6 => f_o σ3 v6 [4] (fun b => W_X4_takesName G d b σ3 (fun v7 σ8 => f_gr σ8 (some a0) [0] 22 (fun v11 => f_gi σ8 v11 [4] 2 (fun v12 => ((¬ v12 = 0 → f_p σ8 (some a0) [0] 18 (.int 0) (fun σ13 => Q (-1) σ13)) ∧ (v12 = 0 → f_p σ8 (some a0) [0] 18 (.int 0) (fun σ14 => Q v7 σ14)))))) (fun q10 σ9 => f_o σ9 (some q10) [3] (fun _ => B_X0_word_38 G (d + 1) a0 (some q10) σ9 Q)))))))) : W_X0_word G (d + 1) a0 σ Q := by
  unfold W_X0_word
  refine am_aloadr_n (x := some a0) dX0_word_0 rfl rfl ?_
  refine fx_gr (k := 22) (f_fldC (ref := "PondHouse") inf_X0 (by decide) q1262 (Or.inl rfl) f_fld0) dX0_word_1 h (fun v1 h => ?_)
  refine fx_callV (Mc := m_X4_begins) (as := []) (cs := [4]) (r := v1) (f_clsC inf_X4 q1394 f_cls0) bm_X4_begins q1392 q1393 (Nat.le_of_ble_eq_true rfl) dX0_word_4 h (fun b h => mt_X4_begins (fx_k2v h (fun σ3 h => ?_) (fun q σ' h => h.elim)))
  refine am_aloadr_n (x := some a0) dX0_word_7 rfl rfl ?_
  refine fx_gr (k := 22) (f_fldC (ref := "PondHouse") inf_X0 (by decide) q1262 (Or.inl rfl) f_fld0) dX0_word_8 h (fun v6 h => ?_)
  refine fx_callVN (Mc := m_X4_takesName) (as := []) (cs := [4]) (r := v6) (f_clsC inf_X4 qs44 f_cls0) bm_X4_takesName q1674 q1676 (Nat.le_of_ble_eq_true rfl) dX0_word_11 h (fun b h => mt_X4_takesName (fx_k2i h (fun v7 σ8 h => ?_) (fun q σ' h => ?_)))
  · refine am_istore_n (L' := [(2, .int v7), (0, va_rf (some a0))]) dX0_word_14 rfl (Nat.le_of_ble_eq_true rfl) rfl ?_
    refine am_aloadr_n (x := some a0) dX0_word_15 rfl rfl ?_
    refine fx_gr (k := 22) (f_fldC (ref := "PondHouse") inf_X0 (by decide) q1262 (Or.inl rfl) f_fld0) dX0_word_16 h (fun v11 h => ?_)
    refine fx_gi (k := 2) (f_fldN (ref := "PondHouse$Reader") inf_X4 (by decide) q1182 rfl f_fld0) dX0_word_19 h (fun v12 h => ?_)
    refine am_if_ne (tgt := 29) dX0_word_22 (by decide) (fun c => ?_) (fun c => ?_)
    · have h := h.1 c
      refine am_iconst (v := (-1)) dX0_word_29 (by decide) ?_
      refine am_istore_n (L' := [(4, .int (-1)), (2, .int v7), (0, va_rf (some a0))]) dX0_word_30 rfl (Nat.le_of_ble_eq_true rfl) rfl ?_
      refine am_aloadr_n (x := some a0) dX0_word_31 rfl rfl ?_
      refine am_iconst (v := 0) dX0_word_32 (by decide) ?_
      refine fx_p (k := 18) (v := .int 0) (f_putC inf_X0 (by decide) rfl rfl q1258 (Or.inl rfl) f_put0) dX0_word_33 h (fun σ13 h => ?_)
      refine am_iload_n (x := (-1)) dX0_word_36 rfl rfl ?_
      exact am_iret rfl dX0_word_37 h
    · have h := h.2 c
      refine am_iload_n (x := v7) dX0_word_25 rfl rfl ?_
      refine am_goto (tgt := 30) dX0_word_26 (by decide) ?_
      refine am_istore_n (L' := [(4, .int v7), (2, .int v7), (0, va_rf (some a0))]) dX0_word_30 rfl (Nat.le_of_ble_eq_true rfl) rfl ?_
      refine am_aloadr_n (x := some a0) dX0_word_31 rfl rfl ?_
      refine am_iconst (v := 0) dX0_word_32 (by decide) ?_
      refine fx_p (k := 18) (v := .int 0) (f_putC inf_X0 (by decide) rfl rfl q1258 (Or.inl rfl) f_put0) dX0_word_33 h (fun σ14 h => ?_)
      refine am_iload_n (x := v7) dX0_word_36 rfl rfl ?_
      exact am_iret rfl dX0_word_37 h
  · refine fx_catch [] [{ startPc := 0, endPc := 31, handlerPc := 48, catchType := 0 }, { startPc := 38, endPc := 41, handlerPc := 48, catchType := 0 }] { startPc := 0, endPc := 31, handlerPc := 38, catchType := 142 } inf_X3 (by decide +kernel) (by decide +kernel) (by decide +kernel) (by decide) q1152 (Or.inr rfl) h (fun h => ?_)
    exact am_lss h rfl
theorem B_X0_word_38_f {G : am_G} {d : Nat} {a0 : Nat} {s0 : Option Nat} {σ : am_S} {Q : Int32 → am_S → Prop} (h : f_p σ (some a0) [0] 18 (.int 0) (fun σ1 => Q (-1) σ1)) : B_X0_word_38 G (d + 1) a0 s0 σ Q := by
  unfold B_X0_word_38
  refine am_astore_n (x := s0) (L' := [(2, va_rf s0), (0, va_rf (some a0))]) dX0_word_38 rfl (Nat.le_of_ble_eq_true rfl) rfl ?_
  refine am_iconst (v := (-1)) dX0_word_39 (by decide) ?_
  refine am_istore_n (L' := [(4, .int (-1)), (2, va_rf s0), (0, va_rf (some a0))]) dX0_word_40 rfl (Nat.le_of_ble_eq_true rfl) rfl ?_
  refine am_aloadr_n (x := some a0) dX0_word_41 rfl rfl ?_
  refine am_iconst (v := 0) dX0_word_42 (by decide) ?_
  refine fx_p (k := 18) (v := .int 0) (f_putC inf_X0 (by decide) rfl rfl q1258 (Or.inl rfl) f_put0) dX0_word_43 h (fun σ1 h => ?_)
  refine am_iload_n (x := (-1)) dX0_word_46 rfl rfl ?_
  exact am_iret rfl dX0_word_47 h
theorem B_X0_word_48_f {G : am_G} {d : Nat} {a0 : Nat} {s0 : Option Nat} {σ : am_S} {Q : Int32 → am_S → Prop} (h : f_p σ (some a0) [0] 18 (.int 0) (fun σ1 => False)) : B_X0_word_48 G (d + 1) a0 s0 σ Q := by
  unfold B_X0_word_48
  refine am_astore_n (x := s0) (L' := [(6, va_rf s0), (0, va_rf (some a0))]) dX0_word_48 rfl (Nat.le_of_ble_eq_true rfl) rfl ?_
  refine am_aloadr_n (x := some a0) dX0_word_49 rfl rfl ?_
  refine am_iconst (v := 0) dX0_word_50 (by decide) ?_
  refine fx_p (k := 18) (v := .int 0) (f_putC inf_X0 (by decide) rfl rfl q1258 (Or.inl rfl) f_put0) dX0_word_51 h (fun σ1 h => ?_)
  refine am_aloadr_n (x := s0) dX0_word_54 rfl rfl ?_
  exact h.elim
theorem W_X0_isAmong_f {G : am_G} {d : Nat} {a1 : Option Nat} {a2 : Option Nat} {σ : am_S} {Q : Int32 → am_S → Prop} (h : f_al σ a1 5 (fun v1 => B_X0_isAmong_8 G (d + 1) a2 a1 v1 0 σ Q)) : W_X0_isAmong G (d + 1) a1 a2 σ Q := by
  unfold W_X0_isAmong
  refine am_aloadr_n (x := a1) dX0_isAmong_0 rfl rfl ?_
  refine am_astore_n (x := a1) (L' := [(4, va_rf a1), (0, va_rf a1), (2, va_rf a2)]) dX0_isAmong_1 rfl (Nat.le_of_ble_eq_true rfl) rfl ?_
  refine am_aloadr_n (x := a1) dX0_isAmong_2 rfl rfl ?_
  refine fx_al (τ := 5) rfl dX0_isAmong_3 h (fun v1 h => ?_)
  refine am_istore_n (L' := [(6, .int v1), (4, va_rf a1), (0, va_rf a1), (2, va_rf a2)]) dX0_isAmong_4 rfl (Nat.le_of_ble_eq_true rfl) rfl ?_
  refine am_iconst (v := 0) dX0_isAmong_5 (by decide) ?_
  refine am_istore (L' := [(8, .int 0), (6, .int v1), (4, va_rf a1), (0, va_rf a1), (2, va_rf a2)]) dX0_isAmong_6 (Nat.le_of_ble_eq_true rfl) rfl ?_
  exact am_lss h rfl
theorem B_X0_isAmong_8_f {G : am_G} {d : Nat} {x1 : Option Nat} {x2 : Option Nat} {x3 : Int32} {x4 : Int32} {σ : am_S} {Q : Int32 → am_S → Prop} (h : ((x3 ≤ x4 → Q 0 σ) ∧ (¬ x3 ≤ x4 → f_ar σ x2 5 x4 (fun v1 => f_Go G σ v1 (fun b => W_J4_equals G d b x1 σ (fun v2 σ3 => ((v2 = 0 → B_X0_isAmong_8 G (d + 1) x1 x2 x3 (x4 + 1) σ3 Q) ∧ (¬ v2 = 0 → Q 1 σ3)))))))) : B_X0_isAmong_8 G (d + 1) x1 x2 x3 x4 σ Q := by
  unfold B_X0_isAmong_8
  refine am_iload (x := x4) dX0_isAmong_8 rfl ?_
  refine am_iload_n (x := x3) dX0_isAmong_10 rfl rfl ?_
  refine am_icmp_ge (tgt := 37) dX0_isAmong_11 (by decide) (fun c => ?_) (fun c => ?_)
  · have h := h.1 c
    refine am_iconst (v := 0) dX0_isAmong_37 (by decide) ?_
    exact am_zret rfl rfl dX0_isAmong_38 h
  · have h := h.2 c
    refine am_aloadr_n (x := x2) dX0_isAmong_14 rfl rfl ?_
    refine am_iload (x := x4) dX0_isAmong_15 rfl ?_
    refine fx_ar (τ := 5) rfl rfl dX0_isAmong_17 h (fun v1 h => ?_)
    refine am_astore (x := v1) (L' := [(10, va_rf v1), (2, va_rf x1), (4, va_rf x2), (6, .int x3), (8, .int x4)]) dX0_isAmong_18 (Nat.le_of_ble_eq_true rfl) rfl ?_
    refine am_aloadr (x := v1) dX0_isAmong_20 rfl ?_
    refine am_aloadr_n (x := x1) dX0_isAmong_22 rfl rfl ?_
    refine fx_callGo (Mc := m_J4_equals) (as := [va_rf x1]) (r := v1) q1585 bm_J4_equals q1583 q1584 (Nat.le_of_ble_eq_true rfl) dX0_isAmong_23 h (fun b h => mt_J4_equals (fx_k2i h (fun v2 σ3 h => ?_) (fun q σ' h => h.elim)))
    refine am_if_eq (tgt := 31) dX0_isAmong_26 (by decide) (fun c => ?_) (fun c => ?_)
    · have h := h.1 c
      refine am_iinc (x := x4) (v := (x4 + 1)) (L' := [(8, .int (x4 + 1)), (10, va_rf v1), (2, va_rf x1), (4, va_rf x2), (6, .int x3)]) dX0_isAmong_31 rfl rfl (Nat.le_of_ble_eq_true rfl) rfl ?_
      refine am_goto (tgt := 8) dX0_isAmong_34 (by decide) ?_
      exact am_lss h rfl
    · have h := h.2 c
      refine am_iconst (v := 1) dX0_isAmong_29 (by decide) ?_
      exact am_zret rfl rfl dX0_isAmong_30 h
theorem W_X0_refused_f {G : am_G} {d : Nat} {a0 : Nat} {a1 : Int32} {a2 : Int32} {σ : am_S} {Q : Option Nat → am_S → Prop} (h : f_gr σ (some a0) [0] 21 (fun v1 => f_p σ v1 [3] 6 (.int a1) (fun σ2 => f_gr σ2 (some a0) [0] 21 (fun v3 => f_p σ2 v3 [3] 7 (.int a2) (fun σ4 => f_gr σ4 (some a0) [0] 21 (fun v5 => Q v5 σ4)))))) : W_X0_refused G d a0 a1 a2 σ Q := by
  unfold W_X0_refused
  refine am_aloadr_n (x := some a0) dX0_refused_0 rfl rfl ?_
  refine fx_gr (k := 21) (f_fldC (ref := "PondHouse") inf_X0 (by decide) q1261 (Or.inl rfl) f_fld0) dX0_refused_1 h (fun v1 h => ?_)
  refine am_iload_n (x := a1) dX0_refused_4 rfl rfl ?_
  refine fx_p (k := 6) (v := .int a1) (f_putC inf_X3 (by decide) rfl rfl q1165 (Or.inl rfl) f_put0) dX0_refused_5 h (fun σ2 h => ?_)
  refine am_aloadr_n (x := some a0) dX0_refused_8 rfl rfl ?_
  refine fx_gr (k := 21) (f_fldC (ref := "PondHouse") inf_X0 (by decide) q1261 (Or.inl rfl) f_fld0) dX0_refused_9 h (fun v3 h => ?_)
  refine am_iload_n (x := a2) dX0_refused_12 rfl rfl ?_
  refine fx_p (k := 7) (v := .int a2) (f_putC inf_X3 (by decide) rfl rfl q1166 (Or.inl rfl) f_put0) dX0_refused_13 h (fun σ4 h => ?_)
  refine am_aloadr_n (x := some a0) dX0_refused_16 rfl rfl ?_
  refine fx_gr (k := 21) (f_fldC (ref := "PondHouse") inf_X0 (by decide) q1261 (Or.inl rfl) f_fld0) dX0_refused_17 h (fun v5 h => ?_)
  exact fx_aret rfl rfl dX0_refused_20 h
theorem W_X0_number_f {G : am_G} {d : Nat} {a0 : Nat} {a1 : Option Nat} {σ : am_S} {Q : Int32 → am_S → Prop} (h : B_X0_number_2 G (d + 1) a0 a1 0 σ Q) : W_X0_number G (d + 1) a0 a1 σ Q := by
  unfold W_X0_number
  refine am_iconst (v := 0) dX0_number_0 (by decide) ?_
  refine am_istore_n (L' := [(4, .int 0), (0, va_rf (some a0)), (2, va_rf a1)]) dX0_number_1 rfl (Nat.le_of_ble_eq_true rfl) rfl ?_
  exact am_lss h rfl
theorem B_X0_number_2_f {G : am_G} {d : Nat} {a0 : Nat} {x1 : Option Nat} {x2 : Int32} {σ : am_S} {Q : Int32 → am_S → Prop} (h : f_gi σ (some a0) [0] 1 (fun v1 => ((v1 ≤ x2 → f_gi σ (some a0) [0] 1 (fun v2 => ((¬ v2 = 40 → f_gr σ (some a0) [0] 0 (fun v3 => f_gi σ (some a0) [0] 1 (fun v4 => f_sr σ v3 5 [35] v4 x1 (fun σ5 => f_gi σ5 (some a0) [0] 1 (fun v6 => f_p σ5 (some a0) [0] 1 (.int (v6 + 1)) (fun σ7 => f_gi σ7 (some a0) [0] 1 (fun v8 => Q (v8 - 1) σ7))))))) ∧ (v2 = 40 → Q (-1) σ)))) ∧ (¬ v1 ≤ x2 → f_gr σ (some a0) [0] 0 (fun v9 => f_ar σ v9 5 x2 (fun v10 => f_Go G σ v10 (fun b => W_J4_equals G d b x1 σ (fun v11 σ12 => ((v11 = 0 → B_X0_number_2 G (d + 1) a0 x1 (x2 + 1) σ12 Q) ∧ (¬ v11 = 0 → Q x2 σ12)))))))))) : B_X0_number_2 G (d + 1) a0 x1 x2 σ Q := by
  unfold B_X0_number_2
  refine am_iload_n (x := x2) dX0_number_2 rfl rfl ?_
  refine am_aloadr_n (x := some a0) dX0_number_3 rfl rfl ?_
  refine fx_gi (k := 1) (f_fldC (ref := "PondHouse") inf_X0 (by decide) q1237 (Or.inl rfl) f_fld0) dX0_number_4 h (fun v1 h => ?_)
  refine am_icmp_ge (tgt := 31) dX0_number_7 (by decide) (fun c => ?_) (fun c => ?_)
  · have h := h.1 c
    refine am_aloadr_n (x := some a0) dX0_number_31 rfl rfl ?_
    refine fx_gi (k := 1) (f_fldC (ref := "PondHouse") inf_X0 (by decide) q1237 (Or.inl rfl) f_fld0) dX0_number_32 h (fun v2 h => ?_)
    refine am_bipush (v := 40) dX0_number_35 (by decide) ?_
    refine am_icmp_ne (tgt := 42) dX0_number_37 (by decide) (fun c => ?_) (fun c => ?_)
    · have h := h.1 c
      refine am_aloadr_n (x := some a0) dX0_number_42 rfl rfl ?_
      refine fx_gr (k := 0) (f_fldC (ref := "PondHouse") inf_X0 (by decide) q1236 (Or.inl rfl) f_fld0) dX0_number_43 h (fun v3 h => ?_)
      refine am_aloadr_n (x := some a0) dX0_number_46 rfl rfl ?_
      refine fx_gi (k := 1) (f_fldC (ref := "PondHouse") inf_X0 (by decide) q1237 (Or.inl rfl) f_fld0) dX0_number_47 h (fun v4 h => ?_)
      refine am_aloadr_n (x := x1) dX0_number_50 rfl rfl ?_
      refine fx_sr (τ := 5) (E := "java/lang/String") (cs := [35]) (v := x1) rfl (f_clsC inf_J4 (Or.inl rfl) f_cls0) dX0_number_51 h (fun σ5 h => ?_)
      refine am_aloadr_n (x := some a0) dX0_number_52 rfl rfl ?_
      refine am_dup dX0_number_53 (am_rf_cat _) ?_
      refine fx_gi (k := 1) (f_fldC (ref := "PondHouse") inf_X0 (by decide) q1237 (Or.inl rfl) f_fld0) dX0_number_54 h (fun v6 h => ?_)
      refine am_iconst (v := 1) dX0_number_57 (by decide) ?_
      refine am_iadd dX0_number_58 ?_
      refine fx_p (k := 1) (v := .int (v6 + 1)) (f_putC inf_X0 (by decide) rfl rfl q1237 (Or.inl rfl) f_put0) dX0_number_59 h (fun σ7 h => ?_)
      refine am_aloadr_n (x := some a0) dX0_number_62 rfl rfl ?_
      refine fx_gi (k := 1) (f_fldC (ref := "PondHouse") inf_X0 (by decide) q1237 (Or.inl rfl) f_fld0) dX0_number_63 h (fun v8 h => ?_)
      refine am_iconst (v := 1) dX0_number_66 (by decide) ?_
      refine am_isub dX0_number_67 ?_
      exact am_iret rfl dX0_number_68 h
    · have h := h.2 c
      refine am_iconst (v := (-1)) dX0_number_40 (by decide) ?_
      exact am_iret rfl dX0_number_41 h
  · have h := h.2 c
    refine am_aloadr_n (x := some a0) dX0_number_10 rfl rfl ?_
    refine fx_gr (k := 0) (f_fldC (ref := "PondHouse") inf_X0 (by decide) q1236 (Or.inl rfl) f_fld0) dX0_number_11 h (fun v9 h => ?_)
    refine am_iload_n (x := x2) dX0_number_14 rfl rfl ?_
    refine fx_ar (τ := 5) rfl rfl dX0_number_15 h (fun v10 h => ?_)
    refine am_aloadr_n (x := x1) dX0_number_16 rfl rfl ?_
    refine fx_callGo (Mc := m_J4_equals) (as := [va_rf x1]) (r := v10) q1585 bm_J4_equals q1583 q1584 (Nat.le_of_ble_eq_true rfl) dX0_number_17 h (fun b h => mt_J4_equals (fx_k2i h (fun v11 σ12 h => ?_) (fun q σ' h => h.elim)))
    refine am_if_eq (tgt := 25) dX0_number_20 (by decide) (fun c => ?_) (fun c => ?_)
    · have h := h.1 c
      refine am_iinc (x := x2) (v := (x2 + 1)) (L' := [(4, .int (x2 + 1)), (0, va_rf (some a0)), (2, va_rf x1)]) dX0_number_25 rfl rfl (Nat.le_of_ble_eq_true rfl) rfl ?_
      refine am_goto (tgt := 2) dX0_number_28 (by decide) ?_
      exact am_lss h rfl
    · have h := h.2 c
      refine am_iload_n (x := x2) dX0_number_23 rfl rfl ?_
      exact am_iret rfl dX0_number_24 h
theorem W_X0_pond_f {G : am_G} {d : Nat} {a0 : Nat} {σ : am_S} {Q : Int32 → am_S → Prop} (h : f_gr σ (some a0) [0] 22 (fun v1 => f_o σ v1 [4] (fun b => W_X4_pond G d b σ (fun v2 σ3 => B_X0_pond_10 G (d + 1) a0 v2 0 σ3 Q) (fun q5 σ4 => f_o σ4 (some q5) [3] (fun _ => B_X0_pond_120 G (d + 1) a0 (some q5) σ4 Q))))) : W_X0_pond G (d + 1) a0 σ Q := by
  unfold W_X0_pond
  refine am_aloadr_n (x := some a0) dX0_pond_0 rfl rfl ?_
  refine fx_gr (k := 22) (f_fldC (ref := "PondHouse") inf_X0 (by decide) q1262 (Or.inl rfl) f_fld0) dX0_pond_1 h (fun v1 h => ?_)
  refine fx_callVN (Mc := m_X4_pond) (as := []) (cs := [4]) (r := v1) (f_clsC inf_X4 qs49 f_cls0) bm_X4_pond q1698 q1700 (Nat.le_of_ble_eq_true rfl) dX0_pond_4 h (fun b h => mt_X4_pond (fx_k2r h (fun v2 σ3 h => ?_) (fun q σ' h => ?_)))
  · refine am_astore_n (x := v2) (L' := [(2, va_rf v2), (0, va_rf (some a0))]) dX0_pond_7 rfl (Nat.le_of_ble_eq_true rfl) rfl ?_
    refine am_iconst (v := 0) dX0_pond_8 (by decide) ?_
    refine am_istore_n (L' := [(4, .int 0), (2, va_rf v2), (0, va_rf (some a0))]) dX0_pond_9 rfl (Nat.le_of_ble_eq_true rfl) rfl ?_
    exact am_lss h rfl
  · refine fx_catch [] [{ startPc := 0, endPc := 113, handlerPc := 134, catchType := 0 }, { startPc := 120, endPc := 127, handlerPc := 134, catchType := 0 }] { startPc := 0, endPc := 113, handlerPc := 120, catchType := 142 } inf_X3 (by decide +kernel) (by decide +kernel) (by decide +kernel) (by decide) q1152 (Or.inr rfl) h (fun h => ?_)
    exact am_lss h rfl
theorem B_X0_pond_10_f {G : am_G} {d : Nat} {a0 : Nat} {x1 : Option Nat} {x2 : Int32} {σ : am_S} {Q : Int32 → am_S → Prop} (h : f_o σ x1 [7] (fun b => W_X7_size G d b σ (fun v1 σ2 => ((v1 ≤ x2 → f_na G σ2 9 f_a0r 0 (fun n5 σ6 => f_o σ6 (some a0) [0] (fun b => W_X0_made G d b x1 (some n5) 0 σ6 (fun v7 σ8 => f_p σ8 (some a0) [0] 3 (va_rf v7) (fun σ11 => f_gr σ11 (some a0) [0] 3 (fun v12 => f_na G σ11 11 f_a0r 0 (fun n13 σ14 => W_X0_fixedOf_2 G d v12 (some n13) σ14 (fun v15 σ16 => f_p σ16 (some a0) [0] 4 (va_rf v15) (fun σ19 => f_o σ19 (some a0) [0] (fun b => W_X0_fine G d b σ19 (fun σ21 => f_p σ21 (some a0) [0] 6 (.int 0) (fun σ24 => f_p σ24 (some a0) [0] 25 (.int 0) (fun σ25 => f_p σ25 (some a0) [0] 27 (va_rf none) (fun σ26 => f_p σ26 (some a0) [0] 34 (va_rf none) (fun σ27 => f_p σ27 (some a0) [0] 26 (.int 0) (fun σ28 => f_p σ28 (some a0) [0] 37 (.int (-1)) (fun σ29 => f_gr σ29 (some a0) [0] 35 (fun v30 => W_J8_fill_2 G d v30 none σ29 (fun σ32 => f_gr σ32 (some a0) [0] 3 (fun v35 => f_al σ32 v35 9 (fun v36 => f_p σ32 (some a0) [0] 18 (.int 0) (fun σ37 => Q v36 σ37)))))))))))))))))))))) ∧ (¬ v1 ≤ x2 → f_o σ2 x1 [7] (fun b => W_X7_get G d b x2 σ2 (fun v38 σ39 => f_k σ39 v38 [8] (f_p σ39 v38 [8] 2 (.int 1) (fun σ42 => B_X0_pond_10 G (d + 1) a0 x1 (x2 + 1) σ42 Q))))))))) : B_X0_pond_10 G (d + 1) a0 x1 x2 σ Q := by
  unfold B_X0_pond_10
  refine am_iload_n (x := x2) dX0_pond_10 rfl rfl ?_
  refine am_aloadr_n (x := x1) dX0_pond_11 rfl rfl ?_
  refine fx_callV (Mc := m_X7_size) (as := []) (cs := [7]) (r := x1) (f_clsC inf_X7 q711 f_cls0) bm_X7_size q709 q710 (Nat.le_of_ble_eq_true rfl) dX0_pond_12 h (fun b h => mt_X7_size (fx_k2i h (fun v1 σ2 h => ?_) (fun q σ' h => h.elim)))
  refine am_icmp_ge (tgt := 36) dX0_pond_15 (by decide) (fun c => ?_) (fun c => ?_)
  · have h := h.1 c
    refine am_aloadr_n (x := some a0) dX0_pond_36 rfl rfl ?_
    refine am_aloadr_n (x := some a0) dX0_pond_37 rfl rfl ?_
    refine am_aloadr_n (x := x1) dX0_pond_38 rfl rfl ?_
    refine am_iconst (v := 0) dX0_pond_39 (by decide) ?_
    refine fx_nar (τ := 9) q861 q862 rfl dX0_pond_40 h (fun n5 σ6 h => ?_)
    refine am_iconst (v := 0) dX0_pond_43 (by decide) ?_
    refine fx_callV (Mc := m_X0_made) (as := [va_rf x1, va_rf (some n5), .int 0]) (cs := [0]) (r := (some a0)) (f_clsC inf_X0 qs26 f_cls0) bm_X0_made q857 q859 (Nat.le_of_ble_eq_true rfl) dX0_pond_44 h (fun b h => mt_X0_made (fx_k2r h (fun v7 σ8 h => ?_) (fun q σ' h => h.elim)))
    refine fx_p (k := 3) (v := va_rf v7) (f_putC inf_X0 (by decide) (f_nra _ _) (f_fra _ _) q1240 (Or.inl rfl) f_put0) dX0_pond_47 h (fun σ11 h => ?_)
    refine am_aloadr_n (x := some a0) dX0_pond_50 rfl rfl ?_
    refine am_aloadr_n (x := some a0) dX0_pond_51 rfl rfl ?_
    refine fx_gr (k := 3) (f_fldC (ref := "PondHouse") inf_X0 (by decide) q1240 (Or.inl rfl) f_fld0) dX0_pond_52 h (fun v12 h => ?_)
    refine am_iconst (v := 0) dX0_pond_55 (by decide) ?_
    refine fx_nar (τ := 11) q276 q277 rfl dX0_pond_56 h (fun n13 σ14 h => ?_)
    refine fx_callS (Mc := m_X0_fixedOf_2) (as := [va_rf v12, va_rf (some n13)]) bm_X0_fixedOf_2 q995 q996 (Nat.le_of_ble_eq_true rfl) dX0_pond_59 (mt_X0_fixedOf_2 (fx_k2r h (fun v15 σ16 h => ?_) (fun q σ' h => h.elim)))
    refine fx_p (k := 4) (v := va_rf v15) (f_putC inf_X0 (by decide) (f_nra _ _) (f_fra _ _) q1241 (Or.inl rfl) f_put0) dX0_pond_62 h (fun σ19 h => ?_)
    refine am_aloadr_n (x := some a0) dX0_pond_65 rfl rfl ?_
    refine fx_callV (Mc := m_X0_fine) (as := []) (cs := [0]) (r := (some a0)) (f_clsC inf_X0 qs70 f_cls0) bm_X0_fine q2048 q2050 (Nat.le_of_ble_eq_true rfl) dX0_pond_66 h (fun b h => mt_X0_fine (fx_k2v h (fun σ21 h => ?_) (fun q σ' h => h.elim)))
    refine am_aloadr_n (x := some a0) dX0_pond_69 rfl rfl ?_
    refine am_iconst (v := 0) dX0_pond_70 (by decide) ?_
    refine fx_p (k := 6) (v := .int 0) (f_putC inf_X0 (by decide) rfl rfl q1243 (Or.inl rfl) f_put0) dX0_pond_71 h (fun σ24 h => ?_)
    refine am_aloadr_n (x := some a0) dX0_pond_74 rfl rfl ?_
    refine am_iconst (v := 0) dX0_pond_75 (by decide) ?_
    refine fx_p (k := 25) (v := .int 0) (f_putC inf_X0 (by decide) rfl rfl q1265 (Or.inl rfl) f_put0) dX0_pond_76 h (fun σ25 h => ?_)
    refine am_aloadr_n (x := some a0) dX0_pond_79 rfl rfl ?_
    refine am_null dX0_pond_80 ?_
    refine fx_p (k := 27) (v := va_rf none) (f_putC inf_X0 (by decide) (f_nrf _ _) (f_frf _ _) q1267 (Or.inl rfl) f_put0) dX0_pond_81 h (fun σ26 h => ?_)
    refine am_aloadr_n (x := some a0) dX0_pond_84 rfl rfl ?_
    refine am_null dX0_pond_85 ?_
    refine fx_p (k := 34) (v := va_rf none) (f_putC inf_X0 (by decide) (f_nrf _ _) (f_frf _ _) q1274 (Or.inl rfl) f_put0) dX0_pond_86 h (fun σ27 h => ?_)
    refine am_aloadr_n (x := some a0) dX0_pond_89 rfl rfl ?_
    refine am_iconst (v := 0) dX0_pond_90 (by decide) ?_
    refine fx_p (k := 26) (v := .int 0) (f_putC inf_X0 (by decide) rfl rfl q1266 (Or.inl rfl) f_put0) dX0_pond_91 h (fun σ28 h => ?_)
    refine am_aloadr_n (x := some a0) dX0_pond_94 rfl rfl ?_
    refine am_iconst (v := (-1)) dX0_pond_95 (by decide) ?_
    refine fx_p (k := 37) (v := .int (-1)) (f_putC inf_X0 (by decide) rfl rfl q1277 (Or.inl rfl) f_put0) dX0_pond_96 h (fun σ29 h => ?_)
    refine am_aloadr_n (x := some a0) dX0_pond_99 rfl rfl ?_
    refine fx_gr (k := 35) (f_fldC (ref := "PondHouse") inf_X0 (by decide) q1275 (Or.inl rfl) f_fld0) dX0_pond_100 h (fun v30 h => ?_)
    refine am_null dX0_pond_103 ?_
    refine fx_callS (Mc := m_J8_fill_2) (as := [va_rf v30, va_rf none]) bm_J8_fill_2 q2052 q2053 (Nat.le_of_ble_eq_true rfl) dX0_pond_104 (mt_J8_fill_2 (fx_k2v h (fun σ32 h => ?_) (fun q σ' h => h.elim)))
    refine am_aloadr_n (x := some a0) dX0_pond_107 rfl rfl ?_
    refine fx_gr (k := 3) (f_fldC (ref := "PondHouse") inf_X0 (by decide) q1240 (Or.inl rfl) f_fld0) dX0_pond_108 h (fun v35 h => ?_)
    refine fx_al (τ := 9) rfl dX0_pond_111 h (fun v36 h => ?_)
    refine am_istore_n (L' := [(4, .int v36), (0, va_rf (some a0)), (2, va_rf x1)]) dX0_pond_112 rfl (Nat.le_of_ble_eq_true rfl) rfl ?_
    refine am_aloadr_n (x := some a0) dX0_pond_113 rfl rfl ?_
    refine am_iconst (v := 0) dX0_pond_114 (by decide) ?_
    refine fx_p (k := 18) (v := .int 0) (f_putC inf_X0 (by decide) rfl rfl q1258 (Or.inl rfl) f_put0) dX0_pond_115 h (fun σ37 h => ?_)
    refine am_iload_n (x := v36) dX0_pond_118 rfl rfl ?_
    exact am_iret rfl dX0_pond_119 h
  · have h := h.2 c
    refine am_aloadr_n (x := x1) dX0_pond_18 rfl rfl ?_
    refine am_iload_n (x := x2) dX0_pond_19 rfl rfl ?_
    refine fx_callV (Mc := m_X7_get) (as := [.int x2]) (cs := [7]) (r := x1) (f_clsC inf_X7 q719 f_cls0) bm_X7_get q717 q718 (Nat.le_of_ble_eq_true rfl) dX0_pond_20 h (fun b h => mt_X7_get (fx_k2r h (fun v38 σ39 h => ?_) (fun q σ' h => h.elim)))
    refine fx_cc (cs := [8]) (f_clsC inf_X8 (Or.inl rfl) f_cls0) q550 dX0_pond_23 h (fun h => ?_)
    refine am_iconst (v := 1) dX0_pond_26 (by decide) ?_
    refine fx_p (k := 2) (v := .int 1) (f_putC inf_X8 (by decide) rfl rfl q572 (Or.inl rfl) f_put0) dX0_pond_27 h (fun σ42 h => ?_)
    refine am_iinc (x := x2) (v := (x2 + 1)) (L' := [(4, .int (x2 + 1)), (0, va_rf (some a0)), (2, va_rf x1)]) dX0_pond_30 rfl rfl (Nat.le_of_ble_eq_true rfl) rfl ?_
    refine am_goto (tgt := 10) dX0_pond_33 (by decide) ?_
    exact am_lss h rfl
