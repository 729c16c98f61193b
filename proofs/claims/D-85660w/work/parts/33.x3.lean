set_option maxRecDepth 100000
/-! ===== PondHouse: what its blocks do (printed by tools/gx.py) ===== -/
theorem W_X29_init_f {G : am_G} {d : Nat} {a0 : Nat} {a1 : Option Nat} {a2 : Int32} {σ : am_S} {Q : am_S → Prop} (h : f_p σ (some a0) [26] 3 (va_rf a1) (fun σ1 => W_X27_init G d a0 a1 a2 σ1 (fun σ3 => f_new G σ3 7 1 tyX7 (fun n6 σ7 => W_X7_init G d n6 σ7 (fun σ9 => f_p σ9 (some a0) [26] 2 (va_rf (some n6)) (fun σ12 => Q σ12)))))) : W_X29_init G (d + 1) a0 a1 a2 σ Q := by
  unfold W_X29_init
  refine am_aloadr_n (x := some a0) dX29_init_0 rfl rfl ?_
  refine am_aloadr_n (x := a1) dX29_init_1 rfl rfl ?_
  refine fx_p (k := 3) (v := va_rf a1) (f_putC inf_X29 (by decide) (f_nrf _ _) (f_frf _ _) q2129 (Or.inr ⟨rfl, rfl, rfl⟩) f_put0) dX29_init_2 h (fun σ1 h => ?_)
  refine am_aloadr_n (x := some a0) dX29_init_5 rfl rfl ?_
  refine am_aloadr_n (x := a1) dX29_init_6 rfl rfl ?_
  refine am_iload_n (x := a2) dX29_init_7 rfl rfl ?_
  refine fx_callI (Mc := m_X27_init) (as := [va_rf a1, .int a2]) bm_X27_init q2124 q2082 rfl rfl (Nat.le_of_ble_eq_true rfl) dX29_init_8 (mt_X27_init (fx_k2v h (fun σ3 h => ?_) (fun q σ' h => h.elim)))
  refine am_aloadr_n (x := some a0) dX29_init_11 rfl rfl ?_
  refine fx_new inf_X7 q2125 q515 q181 dX29_init_12 h (fun n6 σ7 h => ?_)
  refine am_dup dX29_init_15 (am_rf_cat _) ?_
  refine fx_callIN (Mc := m_X7_init) (as := []) bm_X7_init q2126 q517 rfl rfl (Nat.le_of_ble_eq_true rfl) dX29_init_16 (mt_X7_init (fx_k2v h (fun σ9 h => ?_) (fun q σ' h => h.elim)))
  refine fx_p (k := 2) (v := va_rf (some n6)) (f_putC inf_X29 (by decide) (f_nrf _ _) (f_frf _ _) q2127 (Or.inr ⟨rfl, rfl, rfl⟩) f_put0) dX29_init_19 h (fun σ12 h => ?_)
  exact am_vret rfl dX29_init_22 h
theorem W_X3_init_f {G : am_G} {d : Nat} {a0 : Nat} {σ : am_S} {Q : am_S → Prop} (h : W_J1_init G d a0 none none 0 0 σ (fun σ2 => Q σ2)) : W_X3_init G (d + 1) a0 σ Q := by
  unfold W_X3_init
  refine am_aloadr_n (x := some a0) dX3_init_0 rfl rfl ?_
  refine am_null dX3_init_1 ?_
  refine am_null dX3_init_2 ?_
  refine am_iconst (v := 0) dX3_init_3 (by decide) ?_
  refine am_iconst (v := 0) dX3_init_4 (by decide) ?_
  refine fx_callI (Mc := m_J1_init) (as := [va_rf none, va_rf none, .int 0, .int 0]) bm_J1_init q1164 q1127 rfl rfl (Nat.le_of_ble_eq_true rfl) dX3_init_5 (mt_J1_init (fx_k2v h (fun σ2 h => ?_) (fun q σ' h => h.elim)))
  exact am_vret rfl dX3_init_8 h
theorem W_X30_init_f {G : am_G} {d : Nat} {a0 : Nat} {a1 : Option Nat} {a2 : Int32} {a3 : Int32} {a4 : Option Nat} {σ : am_S} {Q : am_S → Prop} (h : f_p σ (some a0) [27] 0 (va_rf a1) (fun σ1 => f_p σ1 (some a0) [27] 1 (.int a2) (fun σ2 => f_p σ2 (some a0) [27] 2 (.int a3) (fun σ3 => f_p σ3 (some a0) [27] 3 (va_rf a4) (fun σ4 => Q σ4))))) : W_X30_init G (d + 1) a0 a1 a2 a3 a4 σ Q := by
  unfold W_X30_init
  refine am_aloadr_n (x := some a0) dX30_init_0 rfl rfl ?_
  refine am_objInit q2142 q304 q305 (Nat.le_of_ble_eq_true rfl) dX30_init_1 ?_
  refine am_aloadr_n (x := some a0) dX30_init_4 rfl rfl ?_
  refine am_aloadr_n (x := a1) dX30_init_5 rfl rfl ?_
  refine fx_p (k := 0) (v := va_rf a1) (f_putC inf_X30 (by decide) (f_nrf _ _) (f_frf _ _) q2143 (Or.inr ⟨rfl, rfl, rfl⟩) f_put0) dX30_init_6 h (fun σ1 h => ?_)
  refine am_aloadr_n (x := some a0) dX30_init_9 rfl rfl ?_
  refine am_iload_n (x := a2) dX30_init_10 rfl rfl ?_
  refine fx_p (k := 1) (v := .int a2) (f_putC inf_X30 (by decide) rfl rfl q2145 (Or.inr ⟨rfl, rfl, rfl⟩) f_put0) dX30_init_11 h (fun σ2 h => ?_)
  refine am_aloadr_n (x := some a0) dX30_init_14 rfl rfl ?_
  refine am_iload_n (x := a3) dX30_init_15 rfl rfl ?_
  refine fx_p (k := 2) (v := .int a3) (f_putC inf_X30 (by decide) rfl rfl q2147 (Or.inr ⟨rfl, rfl, rfl⟩) f_put0) dX30_init_16 h (fun σ3 h => ?_)
  refine am_aloadr_n (x := some a0) dX30_init_19 rfl rfl ?_
  refine am_aloadr (x := a4) dX30_init_20 rfl ?_
  refine fx_p (k := 3) (v := va_rf a4) (f_putC inf_X30 (by decide) (f_nrf _ _) (f_frf _ _) q2149 (Or.inr ⟨rfl, rfl, rfl⟩) f_put0) dX30_init_22 h (fun σ4 h => ?_)
  exact am_vret rfl dX30_init_25 h
theorem W_X31_makes_f {G : am_G} {d : Nat} {a0 : Nat} {a1 : Option Nat} {a2 : Int32} {σ : am_S} {Q : am_S → Prop} {E : Nat → am_S → Prop} (h : f_gi σ (some a0) [28] 0 (fun v1 => f_o σ (some a0) [28] (fun b => W_X27_needed G d b a1 v1 a2 σ (fun v2 σ3 => B_X31_makes_14 G (d + 1) a0 a1 a2 v2 0 σ3 Q E) E))) : W_X31_makes G (d + 1) a0 a1 a2 σ Q E := by
  unfold W_X31_makes
  refine am_aloadr_n (x := some a0) dX31_makes_0 rfl rfl ?_
  refine am_aloadr_n (x := a1) dX31_makes_1 rfl rfl ?_
  refine am_aloadr_n (x := some a0) dX31_makes_2 rfl rfl ?_
  refine fx_gi (k := 0) (f_fldC (ref := "PondHouse$Goes") inf_X31 (by decide) q2098 (Or.inr ⟨rfl, q2099⟩) f_fld0) dX31_makes_3 h (fun v1 h => ?_)
  refine am_iload_n (x := a2) dX31_makes_6 rfl rfl ?_
  refine fx_callVO (Mc := m_X27_needed) (as := [va_rf a1, .int v1, .int a2]) (x := ⟨"PondHouse$Goes", "needed", "(LPondHouse$Row;II)LPondHouse$Draft;"⟩) (owner := "PondHouse$Change") (r := (some a0)) inf_X31 q830 q746 q747 q831 rfl ⟨by decide, by decide⟩ bm_X27_needed q829 q746 (Nat.le_of_ble_eq_true rfl) dX31_makes_7 h (fun b h => mt_X27_needed (fx_k2r h (fun v2 σ3 h => ?_) (fun q σ' h => am_xout (by decide +kernel) h)))
  refine am_astore_n (x := v2) (L' := [(6, va_rf v2), (0, va_rf (some a0)), (2, va_rf a1), (4, .int a2)]) dX31_makes_10 rfl (Nat.le_of_ble_eq_true rfl) rfl ?_
  refine am_iconst (v := 0) dX31_makes_11 (by decide) ?_
  refine am_istore (L' := [(8, .int 0), (6, va_rf v2), (0, va_rf (some a0)), (2, va_rf a1), (4, .int a2)]) dX31_makes_12 (Nat.le_of_ble_eq_true rfl) rfl ?_
  exact am_lss h rfl
theorem B_X31_makes_14_f {G : am_G} {d : Nat} {a0 : Nat} {x1 : Option Nat} {x2 : Int32} {x3 : Option Nat} {x4 : Int32} {σ : am_S} {Q : am_S → Prop} {E : Nat → am_S → Prop} (h : f_o σ x1 [7] (fun b => W_X7_size G d b σ (fun v1 σ2 => ((v1 ≤ x4 → f_o σ2 x1 [7] (fun b => W_X7_drop G d b x3 σ2 (fun σ6 => Q σ6))) ∧ (¬ v1 ≤ x4 → f_o σ2 x1 [7] (fun b => W_X7_get G d b x4 σ2 (fun v9 σ10 => f_k σ10 v9 [8] (f_gi σ10 v9 [8] 1 (fun v13 => f_gi σ10 (some a0) [28] 0 (fun v14 => ((¬ v13 = v14 → B_X31_makes_14 G (d + 1) a0 x1 x2 x3 (x4 + 1) σ10 Q E) ∧ (v13 = v14 → f_gr σ10 (some a0) [28] 2 (fun v15 => f_o σ10 v15 [0] (fun b => W_X0_refuses G d b 6 x2 (-1) σ10 (fun v16 σ17 => f_o σ17 v16 [5] (fun q => E q σ17)))))))))))))))) : B_X31_makes_14 G (d + 1) a0 x1 x2 x3 x4 σ Q E := by
  unfold B_X31_makes_14
  refine am_iload (x := x4) dX31_makes_14 rfl ?_
  refine am_aloadr_n (x := x1) dX31_makes_16 rfl rfl ?_
  refine fx_callV (Mc := m_X7_size) (as := []) (cs := [7]) (r := x1) (f_clsC inf_X7 q711 f_cls0) bm_X7_size q832 q710 (Nat.le_of_ble_eq_true rfl) dX31_makes_17 h (fun b h => mt_X7_size (fx_k2i h (fun v1 σ2 h => ?_) (fun q σ' h => h.elim)))
  refine am_icmp_ge (tgt := 60) dX31_makes_20 (by decide) (fun c => ?_) (fun c => ?_)
  · have h := h.1 c
    refine am_aloadr_n (x := x1) dX31_makes_60 rfl rfl ?_
    refine am_aloadr_n (x := x3) dX31_makes_61 rfl rfl ?_
    refine fx_callV (Mc := m_X7_drop) (as := [va_rf x3]) (cs := [7]) (r := x1) (f_clsC inf_X7 q838 f_cls0) bm_X7_drop q836 q837 (Nat.le_of_ble_eq_true rfl) dX31_makes_62 h (fun b h => mt_X7_drop (fx_k2v h (fun σ6 h => ?_) (fun q σ' h => h.elim)))
    exact am_vret rfl dX31_makes_65 h
  · have h := h.2 c
    refine am_aloadr_n (x := x1) dX31_makes_23 rfl rfl ?_
    refine am_iload (x := x4) dX31_makes_24 rfl ?_
    refine fx_callV (Mc := m_X7_get) (as := [.int x4]) (cs := [7]) (r := x1) (f_clsC inf_X7 q719 f_cls0) bm_X7_get q833 q718 (Nat.le_of_ble_eq_true rfl) dX31_makes_26 h (fun b h => mt_X7_get (fx_k2r h (fun v9 σ10 h => ?_) (fun q σ' h => h.elim)))
    refine fx_cc (cs := [8]) (f_clsC inf_X8 (Or.inl rfl) f_cls0) q834 dX31_makes_29 h (fun h => ?_)
    refine fx_gi (k := 1) (f_fldC (ref := "PondHouse$Draft") inf_X8 (by decide) q565 (Or.inl rfl) f_fld0) dX31_makes_32 h (fun v13 h => ?_)
    refine am_aloadr_n (x := some a0) dX31_makes_35 rfl rfl ?_
    refine fx_gi (k := 0) (f_fldC (ref := "PondHouse$Goes") inf_X31 (by decide) q2098 (Or.inr ⟨rfl, q2099⟩) f_fld0) dX31_makes_36 h (fun v14 h => ?_)
    refine am_icmp_ne (tgt := 54) dX31_makes_39 (by decide) (fun c => ?_) (fun c => ?_)
    · have h := h.1 c
      refine am_iinc (x := x4) (v := (x4 + 1)) (L' := [(8, .int (x4 + 1)), (0, va_rf (some a0)), (2, va_rf x1), (4, .int x2), (6, va_rf x3)]) dX31_makes_54 rfl rfl (Nat.le_of_ble_eq_true rfl) rfl ?_
      refine am_goto (tgt := 14) dX31_makes_57 (by decide) ?_
      exact am_lss h rfl
    · have h := h.2 c
      refine am_aloadr_n (x := some a0) dX31_makes_42 rfl rfl ?_
      refine fx_gr (k := 2) (f_fldC (ref := "PondHouse$Goes") inf_X31 (by decide) q2175 (Or.inl rfl) f_fld0) dX31_makes_43 h (fun v15 h => ?_)
      refine am_bipush (v := 6) dX31_makes_46 (by decide) ?_
      refine am_iload_n (x := x2) dX31_makes_48 rfl rfl ?_
      refine am_iconst (v := (-1)) dX31_makes_49 (by decide) ?_
      refine fx_callVN (Mc := m_X0_refuses) (as := [.int 6, .int x2, .int (-1)]) (cs := [0]) (r := v15) (f_clsC inf_X0 qs23 f_cls0) bm_X0_refuses q835 q753 (Nat.le_of_ble_eq_true rfl) dX31_makes_50 h (fun b h => mt_X0_refuses (fx_k2r h (fun v16 σ17 h => ?_) (fun q σ' h => h.elim)))
      exact fx_throw (cs := [5]) dX31_makes_53 h (fun q h => am_xout (by decide +kernel) h)
theorem W_X31_init_f {G : am_G} {d : Nat} {a0 : Nat} {a1 : Option Nat} {a2 : Int32} {σ : am_S} {Q : am_S → Prop} (h : f_p σ (some a0) [28] 2 (va_rf a1) (fun σ1 => W_X27_init G d a0 a1 a2 σ1 (fun σ3 => Q σ3))) : W_X31_init G (d + 1) a0 a1 a2 σ Q := by
  unfold W_X31_init
  refine am_aloadr_n (x := some a0) dX31_init_0 rfl rfl ?_
  refine am_aloadr_n (x := a1) dX31_init_1 rfl rfl ?_
  refine fx_p (k := 2) (v := va_rf a1) (f_putC inf_X31 (by decide) (f_nrf _ _) (f_frf _ _) q2175 (Or.inr ⟨rfl, rfl, rfl⟩) f_put0) dX31_init_2 h (fun σ1 h => ?_)
  refine am_aloadr_n (x := some a0) dX31_init_5 rfl rfl ?_
  refine am_aloadr_n (x := a1) dX31_init_6 rfl rfl ?_
  refine am_iload_n (x := a2) dX31_init_7 rfl rfl ?_
  refine fx_callI (Mc := m_X27_init) (as := [va_rf a1, .int a2]) bm_X27_init q2174 q2082 rfl rfl (Nat.le_of_ble_eq_true rfl) dX31_init_8 (mt_X27_init (fx_k2v h (fun σ3 h => ?_) (fun q σ' h => h.elim)))
  exact am_vret rfl dX31_init_11 h
theorem W_X32_makes_f {G : am_G} {d : Nat} {a0 : Nat} {a1 : Option Nat} {a2 : Int32} {σ : am_S} {Q : am_S → Prop} {E : Nat → am_S → Prop} (h : f_gi σ (some a0) [29] 0 (fun v1 => f_o σ (some a0) [29] (fun b => W_X27_needed G d b a1 v1 a2 σ (fun v2 σ3 => f_gi σ3 (some a0) [29] 2 (fun v6 => ((v6 = (-1) → f_gi σ3 (some a0) [29] 2 (fun v7 => B_X32_makes_36 G (d + 1) a0 a1 a2 v2 v7 σ3 Q E)) ∧ (¬ v6 = (-1) → f_gi σ3 (some a0) [29] 2 (fun v8 => f_o σ3 (some a0) [29] (fun b => W_X27_needed G d b a1 v8 a2 σ3 (fun v9 σ10 => f_gi σ10 (some a0) [29] 2 (fun v13 => B_X32_makes_36 G (d + 1) a0 a1 a2 v2 v13 σ10 Q E)) E)))))) E))) : W_X32_makes G (d + 1) a0 a1 a2 σ Q E := by
  unfold W_X32_makes
  refine am_aloadr_n (x := some a0) dX32_makes_0 rfl rfl ?_
  refine am_aloadr_n (x := a1) dX32_makes_1 rfl rfl ?_
  refine am_aloadr_n (x := some a0) dX32_makes_2 rfl rfl ?_
  refine fx_gi (k := 0) (f_fldC (ref := "PondHouse$Moves") inf_X32 (by decide) q2100 (Or.inr ⟨rfl, q2101⟩) f_fld0) dX32_makes_3 h (fun v1 h => ?_)
  refine am_iload_n (x := a2) dX32_makes_6 rfl rfl ?_
  refine fx_callVO (Mc := m_X27_needed) (as := [va_rf a1, .int v1, .int a2]) (x := ⟨"PondHouse$Moves", "needed", "(LPondHouse$Row;II)LPondHouse$Draft;"⟩) (owner := "PondHouse$Change") (r := (some a0)) inf_X32 q853 q746 q747 q854 rfl ⟨by decide, by decide⟩ bm_X27_needed q852 q746 (Nat.le_of_ble_eq_true rfl) dX32_makes_7 h (fun b h => mt_X27_needed (fx_k2r h (fun v2 σ3 h => ?_) (fun q σ' h => am_xout (by decide +kernel) h)))
  refine am_astore_n (x := v2) (L' := [(6, va_rf v2), (0, va_rf (some a0)), (2, va_rf a1), (4, .int a2)]) dX32_makes_10 rfl (Nat.le_of_ble_eq_true rfl) rfl ?_
  refine am_aloadr_n (x := some a0) dX32_makes_11 rfl rfl ?_
  refine fx_gi (k := 2) (f_fldC (ref := "PondHouse$Moves") inf_X32 (by decide) q2187 (Or.inl rfl) f_fld0) dX32_makes_12 h (fun v6 h => ?_)
  refine am_iconst (v := (-1)) dX32_makes_15 (by decide) ?_
  refine am_icmp_eq (tgt := 30) dX32_makes_16 (by decide) (fun c => ?_) (fun c => ?_)
  · have h := h.1 c
    refine am_aloadr_n (x := some a0) dX32_makes_30 rfl rfl ?_
    refine fx_gi (k := 2) (f_fldC (ref := "PondHouse$Moves") inf_X32 (by decide) q2187 (Or.inl rfl) f_fld0) dX32_makes_31 h (fun v7 h => ?_)
    refine am_istore (L' := [(8, .int v7), (6, va_rf v2), (0, va_rf (some a0)), (2, va_rf a1), (4, .int a2)]) dX32_makes_34 (Nat.le_of_ble_eq_true rfl) rfl ?_
    exact am_lss h rfl
  · have h := h.2 c
    refine am_aloadr_n (x := some a0) dX32_makes_19 rfl rfl ?_
    refine am_aloadr_n (x := a1) dX32_makes_20 rfl rfl ?_
    refine am_aloadr_n (x := some a0) dX32_makes_21 rfl rfl ?_
    refine fx_gi (k := 2) (f_fldC (ref := "PondHouse$Moves") inf_X32 (by decide) q2187 (Or.inl rfl) f_fld0) dX32_makes_22 h (fun v8 h => ?_)
    refine am_iload_n (x := a2) dX32_makes_25 rfl rfl ?_
    refine fx_callVO (Mc := m_X27_needed) (as := [va_rf a1, .int v8, .int a2]) (x := ⟨"PondHouse$Moves", "needed", "(LPondHouse$Row;II)LPondHouse$Draft;"⟩) (owner := "PondHouse$Change") (r := (some a0)) inf_X32 q853 q746 q747 q854 rfl ⟨by decide, by decide⟩ bm_X27_needed q852 q746 (Nat.le_of_ble_eq_true rfl) dX32_makes_26 h (fun b h => mt_X27_needed (fx_k2r h (fun v9 σ10 h => ?_) (fun q σ' h => am_xout (by decide +kernel) h)))
    refine am_pop dX32_makes_29 (am_rf_cat _) ?_
    refine am_aloadr_n (x := some a0) dX32_makes_30 rfl rfl ?_
    refine fx_gi (k := 2) (f_fldC (ref := "PondHouse$Moves") inf_X32 (by decide) q2187 (Or.inl rfl) f_fld0) dX32_makes_31 h (fun v13 h => ?_)
    refine am_istore (L' := [(8, .int v13), (6, va_rf v2), (0, va_rf (some a0)), (2, va_rf a1), (4, .int a2)]) dX32_makes_34 (Nat.le_of_ble_eq_true rfl) rfl ?_
    exact am_lss h rfl
theorem B_X32_makes_36_f {G : am_G} {d : Nat} {a0 : Nat} {x1 : Option Nat} {x2 : Int32} {x3 : Option Nat} {x4 : Int32} {σ : am_S} {Q : am_S → Prop} {E : Nat → am_S → Prop} (h : ((x4 = (-1) → f_gi σ (some a0) [29] 2 (fun v1 => f_p σ x3 [8] 1 (.int v1) (fun σ2 => f_p σ2 x3 [8] 2 (.int 1) (fun σ3 => Q σ3)))) ∧ (¬ x4 = (-1) → f_gi σ (some a0) [29] 0 (fun v4 => ((¬ x4 = v4 → W_X0_draft G d x1 x4 σ (fun v5 σ6 => f_gi σ6 v5 [8] 1 (fun v9 => B_X32_makes_36 G (d + 1) a0 x1 x2 x3 v9 σ6 Q E))) ∧ (x4 = v4 → f_gr σ (some a0) [29] 3 (fun v10 => f_o σ v10 [0] (fun b => W_X0_refuses G d b 5 x2 (-1) σ (fun v11 σ12 => f_o σ12 v11 [5] (fun q => E q σ12)))))))))) : B_X32_makes_36 G (d + 1) a0 x1 x2 x3 x4 σ Q E := by
  unfold B_X32_makes_36
  refine am_iload (x := x4) dX32_makes_36 rfl ?_
  refine am_iconst (v := (-1)) dX32_makes_38 (by decide) ?_
  refine am_icmp_eq (tgt := 76) dX32_makes_39 (by decide) (fun c => ?_) (fun c => ?_)
  · have h := h.1 c
    refine am_aloadr_n (x := x3) dX32_makes_76 rfl rfl ?_
    refine am_aloadr_n (x := some a0) dX32_makes_77 rfl rfl ?_
    refine fx_gi (k := 2) (f_fldC (ref := "PondHouse$Moves") inf_X32 (by decide) q2187 (Or.inl rfl) f_fld0) dX32_makes_78 h (fun v1 h => ?_)
    refine fx_p (k := 1) (v := .int v1) (f_putC inf_X8 (by decide) rfl rfl q566 (Or.inl rfl) f_put0) dX32_makes_81 h (fun σ2 h => ?_)
    refine am_aloadr_n (x := x3) dX32_makes_84 rfl rfl ?_
    refine am_iconst (v := 1) dX32_makes_85 (by decide) ?_
    refine fx_p (k := 2) (v := .int 1) (f_putC inf_X8 (by decide) rfl rfl q571 (Or.inl rfl) f_put0) dX32_makes_86 h (fun σ3 h => ?_)
    exact am_vret rfl dX32_makes_89 h
  · have h := h.2 c
    refine am_iload (x := x4) dX32_makes_42 rfl ?_
    refine am_aloadr_n (x := some a0) dX32_makes_44 rfl rfl ?_
    refine fx_gi (k := 0) (f_fldC (ref := "PondHouse$Moves") inf_X32 (by decide) q2100 (Or.inr ⟨rfl, q2101⟩) f_fld0) dX32_makes_45 h (fun v4 h => ?_)
    refine am_icmp_ne (tgt := 62) dX32_makes_48 (by decide) (fun c => ?_) (fun c => ?_)
    · have h := h.1 c
      refine am_aloadr_n (x := x1) dX32_makes_62 rfl rfl ?_
      refine am_iload (x := x4) dX32_makes_63 rfl ?_
      refine fx_callSN (Mc := m_X0_draft) (as := [va_rf x1, .int x4]) bm_X0_draft q856 q749 (Nat.le_of_ble_eq_true rfl) dX32_makes_65 (mt_X0_draft (fx_k2r h (fun v5 σ6 h => ?_) (fun q σ' h => h.elim)))
      refine fx_gi (k := 1) (f_fldC (ref := "PondHouse$Draft") inf_X8 (by decide) q566 (Or.inl rfl) f_fld0) dX32_makes_68 h (fun v9 h => ?_)
      refine am_istore (L' := [(8, .int v9), (0, va_rf (some a0)), (2, va_rf x1), (4, .int x2), (6, va_rf x3)]) dX32_makes_71 (Nat.le_of_ble_eq_true rfl) rfl ?_
      refine am_goto (tgt := 36) dX32_makes_73 (by decide) ?_
      exact am_lss h rfl
    · have h := h.2 c
      refine am_aloadr_n (x := some a0) dX32_makes_51 rfl rfl ?_
      refine fx_gr (k := 3) (f_fldC (ref := "PondHouse$Moves") inf_X32 (by decide) q2188 (Or.inl rfl) f_fld0) dX32_makes_52 h (fun v10 h => ?_)
      refine am_iconst (v := 5) dX32_makes_55 (by decide) ?_
      refine am_iload_n (x := x2) dX32_makes_56 rfl rfl ?_
      refine am_iconst (v := (-1)) dX32_makes_57 (by decide) ?_
      refine fx_callVN (Mc := m_X0_refuses) (as := [.int 5, .int x2, .int (-1)]) (cs := [0]) (r := v10) (f_clsC inf_X0 qs23 f_cls0) bm_X0_refuses q855 q753 (Nat.le_of_ble_eq_true rfl) dX32_makes_58 h (fun b h => mt_X0_refuses (fx_k2r h (fun v11 σ12 h => ?_) (fun q σ' h => h.elim)))
      exact fx_throw (cs := [5]) dX32_makes_61 h (fun q h => am_xout (by decide +kernel) h)
theorem W_X32_init_f {G : am_G} {d : Nat} {a0 : Nat} {a1 : Option Nat} {a2 : Int32} {a3 : Int32} {σ : am_S} {Q : am_S → Prop} (h : f_p σ (some a0) [29] 3 (va_rf a1) (fun σ1 => W_X27_init G d a0 a1 a2 σ1 (fun σ3 => f_p σ3 (some a0) [29] 2 (.int a3) (fun σ6 => Q σ6)))) : W_X32_init G (d + 1) a0 a1 a2 a3 σ Q := by
  unfold W_X32_init
  refine am_aloadr_n (x := some a0) dX32_init_0 rfl rfl ?_
  refine am_aloadr_n (x := a1) dX32_init_1 rfl rfl ?_
  refine fx_p (k := 3) (v := va_rf a1) (f_putC inf_X32 (by decide) (f_nrf _ _) (f_frf _ _) q2188 (Or.inr ⟨rfl, rfl, rfl⟩) f_put0) dX32_init_2 h (fun σ1 h => ?_)
  refine am_aloadr_n (x := some a0) dX32_init_5 rfl rfl ?_
  refine am_aloadr_n (x := a1) dX32_init_6 rfl rfl ?_
  refine am_iload_n (x := a2) dX32_init_7 rfl rfl ?_
  refine fx_callI (Mc := m_X27_init) (as := [va_rf a1, .int a2]) bm_X27_init q2186 q2082 rfl rfl (Nat.le_of_ble_eq_true rfl) dX32_init_8 (mt_X27_init (fx_k2v h (fun σ3 h => ?_) (fun q σ' h => h.elim)))
  refine am_aloadr_n (x := some a0) dX32_init_11 rfl rfl ?_
  refine am_iload_n (x := a3) dX32_init_12 rfl rfl ?_
  refine fx_p (k := 2) (v := .int a3) (f_putC inf_X32 (by decide) rfl rfl q2187 (Or.inr ⟨rfl, rfl, rfl⟩) f_put0) dX32_init_13 h (fun σ6 h => ?_)
  exact am_vret rfl dX32_init_16 h
theorem W_X33_makes_f {G : am_G} {d : Nat} {a0 : Nat} {a1 : Option Nat} {a2 : Int32} {σ : am_S} {Q : am_S → Prop} {E : Nat → am_S → Prop} (h : f_gi σ (some a0) [30] 0 (fun v1 => f_o σ (some a0) [30] (fun b => W_X27_needed G d b a1 v1 a2 σ (fun v2 σ3 => Q σ3) E))) : W_X33_makes G (d + 1) a0 a1 a2 σ Q E := by
  unfold W_X33_makes
  refine am_aloadr_n (x := some a0) dX33_makes_0 rfl rfl ?_
  refine am_aloadr_n (x := a1) dX33_makes_1 rfl rfl ?_
  refine am_aloadr_n (x := some a0) dX33_makes_2 rfl rfl ?_
  refine fx_gi (k := 0) (f_fldC (ref := "PondHouse$Checks") inf_X33 (by decide) q2094 (Or.inr ⟨rfl, q2095⟩) f_fld0) dX33_makes_3 h (fun v1 h => ?_)
  refine am_iload_n (x := a2) dX33_makes_6 rfl rfl ?_
  refine fx_callVO (Mc := m_X27_needed) (as := [va_rf a1, .int v1, .int a2]) (x := ⟨"PondHouse$Checks", "needed", "(LPondHouse$Row;II)LPondHouse$Draft;"⟩) (owner := "PondHouse$Change") (r := (some a0)) inf_X33 q743 q746 q747 q745 rfl ⟨by decide, by decide⟩ bm_X27_needed q742 q746 (Nat.le_of_ble_eq_true rfl) dX33_makes_7 h (fun b h => mt_X27_needed (fx_k2r h (fun v2 σ3 h => ?_) (fun q σ' h => am_xout (by decide +kernel) h)))
  refine am_pop dX33_makes_10 (am_rf_cat _) ?_
  exact am_vret rfl dX33_makes_11 h
theorem W_X33_holds_f {G : am_G} {d : Nat} {a0 : Nat} {a1 : Option Nat} {σ : am_S} {Q : Int32 → am_S → Prop} (h : f_gr σ (some a0) [30] 2 (fun v1 => f_gr σ (some a0) [30] 3 (fun v2 => f_gr σ v2 [0] 8 (fun v3 => f_o σ v3 [1] (fun b => W_X1_begins G d b a1 none 0 σ (fun v4 σ5 => f_nn v1 (fun b => V_X13_of G d b v4 σ5 (fun v8 σ9 => ((v8 = 0 → Q 0 σ9) ∧ (¬ v8 = 0 → Q 1 σ9))) (fun q11 σ10 => f_o σ10 (some q11) [2] (fun _ => B_X33_holds_29 G (d + 1) a0 (some q11) σ10 Q))))))))) : W_X33_holds G (d + 1) a0 a1 σ Q := by
  unfold W_X33_holds
  refine am_aloadr_n (x := some a0) dX33_holds_0 rfl rfl ?_
  refine fx_gr (k := 2) (f_fldC (ref := "PondHouse$Checks") inf_X33 (by decide) q2202 (Or.inl rfl) f_fld0) dX33_holds_1 h (fun v1 h => ?_)
  refine am_aloadr_n (x := some a0) dX33_holds_4 rfl rfl ?_
  refine fx_gr (k := 3) (f_fldC (ref := "PondHouse$Checks") inf_X33 (by decide) q2203 (Or.inl rfl) f_fld0) dX33_holds_5 h (fun v2 h => ?_)
  refine fx_gr (k := 8) (f_fldN (ref := "PondHouse") inf_X0 (by decide) q1245 rfl f_fld0) dX33_holds_8 h (fun v3 h => ?_)
  refine am_aloadr_n (x := a1) dX33_holds_11 rfl rfl ?_
  refine am_null dX33_holds_12 ?_
  refine am_iconst (v := 0) dX33_holds_13 (by decide) ?_
  refine fx_callV (Mc := m_X1_begins) (as := [va_rf a1, va_rf none, .int 0]) (cs := [1]) (r := v3) (f_clsC inf_X1 q336 f_cls0) bm_X1_begins q1027 q335 (Nat.le_of_ble_eq_true rfl) dX33_holds_14 h (fun b h => mt_X1_begins (fx_k2r h (fun v4 σ5 h => ?_) (fun q σ' h => h.elim)))
  refine fv_X13_of q1028 dX33_holds_17 (Nat.le_of_ble_eq_true rfl) h (fun v8 σ9 h => ?_) (fun q σ' h => ?_)
  · refine am_if_eq (tgt := 27) dX33_holds_20 (by decide) (fun c => ?_) (fun c => ?_)
    · have h := h.1 c
      refine am_iconst (v := 0) dX33_holds_27 (by decide) ?_
      exact am_zret rfl rfl dX33_holds_28 h
    · have h := h.2 c
      refine am_iconst (v := 1) dX33_holds_23 (by decide) ?_
      refine am_goto (tgt := 28) dX33_holds_24 (by decide) ?_
      exact am_zret rfl rfl dX33_holds_28 h
  · refine fx_catch [] [] { startPc := 0, endPc := 28, handlerPc := 29, catchType := 43 } inf_X2 (by decide +kernel) (by decide +kernel) (by decide +kernel) (by decide) q1026 (Or.inr rfl) h (fun h => ?_)
    exact am_lss h rfl
theorem B_X33_holds_29_f {G : am_G} {d : Nat} {a0 : Nat} {s0 : Option Nat} {σ : am_S} {Q : Int32 → am_S → Prop} (h : Q 0 σ) : B_X33_holds_29 G (d + 1) a0 s0 σ Q := by
  unfold B_X33_holds_29
  refine am_astore_n (x := s0) (L' := [(4, va_rf s0)]) dX33_holds_29 rfl (Nat.le_of_ble_eq_true rfl) rfl ?_
  refine am_iconst (v := 0) dX33_holds_30 (by decide) ?_
  exact am_zret rfl rfl dX33_holds_31 h
theorem W_X33_init_f {G : am_G} {d : Nat} {a0 : Nat} {a1 : Option Nat} {a2 : Int32} {a3 : Option Nat} {σ : am_S} {Q : am_S → Prop} (h : f_p σ (some a0) [30] 3 (va_rf a1) (fun σ1 => W_X27_init G d a0 a1 a2 σ1 (fun σ3 => f_p σ3 (some a0) [30] 2 (va_rf a3) (fun σ6 => Q σ6)))) : W_X33_init G (d + 1) a0 a1 a2 a3 σ Q := by
  unfold W_X33_init
  refine am_aloadr_n (x := some a0) dX33_init_0 rfl rfl ?_
  refine am_aloadr_n (x := a1) dX33_init_1 rfl rfl ?_
  refine fx_p (k := 3) (v := va_rf a1) (f_putC inf_X33 (by decide) (f_nrf _ _) (f_frf _ _) q2203 (Or.inr ⟨rfl, rfl, rfl⟩) f_put0) dX33_init_2 h (fun σ1 h => ?_)
  refine am_aloadr_n (x := some a0) dX33_init_5 rfl rfl ?_
  refine am_aloadr_n (x := a1) dX33_init_6 rfl rfl ?_
  refine am_iload_n (x := a2) dX33_init_7 rfl rfl ?_
  refine fx_callI (Mc := m_X27_init) (as := [va_rf a1, .int a2]) bm_X27_init q2201 q2082 rfl rfl (Nat.le_of_ble_eq_true rfl) dX33_init_8 (mt_X27_init (fx_k2v h (fun σ3 h => ?_) (fun q σ' h => h.elim)))
  refine am_aloadr_n (x := some a0) dX33_init_11 rfl rfl ?_
  refine am_aloadr_n (x := a3) dX33_init_12 rfl rfl ?_
  refine fx_p (k := 2) (v := va_rf a3) (f_putC inf_X33 (by decide) (f_nrf _ _) (f_frf _ _) q2202 (Or.inr ⟨rfl, rfl, rfl⟩) f_put0) dX33_init_13 h (fun σ6 h => ?_)
  exact am_vret rfl dX33_init_16 h
theorem W_X34_get_f {G : am_G} {d : Nat} {a0 : Nat} {a1 : Int32} {σ : am_S} {Q : Int32 → am_S → Prop} {E : Nat → am_S → Prop} (h : f_gr σ (some a0) [31] 1 (fun v1 => f_o σ v1 [21] (fun b => W_X23_place G d b a1 σ (fun v2 σ3 => ((v2 = (-1) → f_gr σ3 (some a0) [31] 5 (fun v6 => f_gr σ3 (some a0) [31] 1 (fun v7 => f_o σ3 v6 [0] (fun b => W_X0_fixedOf G d b v7 a1 σ3 (fun v8 σ9 => ((v8 = none → f_gr σ9 (some a0) [31] 4 (fun v12 => f_ai σ9 v12 3 a1 (fun v13 => ((¬ v13 = 0 → f_gr σ9 (some a0) [31] 3 (fun v14 => f_ai σ9 v14 0 a1 (fun v15 => Q v15 σ9))) ∧ (v13 = 0 → f_gr σ9 (some a0) [31] 5 (fun v16 => f_o σ9 v16 [0] (fun b => W_X0_fails G d b 1001 σ9 (fun v17 σ18 => f_o σ18 v17 [2] (fun q => E q σ18))))))))) ∧ (¬ v8 = none → f_gi σ9 v8 [23] 2 (fun v21 => Q v21 σ9)))))))) ∧ (¬ v2 = (-1) → f_gr σ3 (some a0) [31] 2 (fun v22 => f_ai σ3 v22 0 v2 (fun v23 => Q v23 σ3)))))))) : W_X34_get G (d + 1) a0 a1 σ Q E := by
  unfold W_X34_get
  refine am_aloadr_n (x := some a0) dX34_get_0 rfl rfl ?_
  refine fx_gr (k := 1) (f_fldC (ref := "PondHouse$Creature") inf_X34 (by decide) q2251 (Or.inl rfl) f_fld0) dX34_get_1 h (fun v1 h => ?_)
  refine am_iload_n (x := a1) dX34_get_4 rfl rfl ?_
  refine fx_callV (Mc := m_X23_place) (as := [.int a1]) (cs := [21]) (r := v1) (f_clsC inf_X23 q258 f_cls0) bm_X23_place q433 q257 (Nat.le_of_ble_eq_true rfl) dX34_get_5 h (fun b h => mt_X23_place (fx_k2i h (fun v2 σ3 h => ?_) (fun q σ' h => h.elim)))
  refine am_istore_n (L' := [(4, .int v2), (0, va_rf (some a0)), (2, .int a1)]) dX34_get_8 rfl (Nat.le_of_ble_eq_true rfl) rfl ?_
  refine am_iload_n (x := v2) dX34_get_9 rfl rfl ?_
  refine am_iconst (v := (-1)) dX34_get_10 (by decide) ?_
  refine am_icmp_eq (tgt := 21) dX34_get_11 (by decide) (fun c => ?_) (fun c => ?_)
  · have h := h.1 c
    refine am_aloadr_n (x := some a0) dX34_get_21 rfl rfl ?_
    refine fx_gr (k := 5) (f_fldC (ref := "PondHouse$Creature") inf_X34 (by decide) q2260 (Or.inl rfl) f_fld0) dX34_get_22 h (fun v6 h => ?_)
    refine am_aloadr_n (x := some a0) dX34_get_25 rfl rfl ?_
    refine fx_gr (k := 1) (f_fldC (ref := "PondHouse$Creature") inf_X34 (by decide) q2251 (Or.inl rfl) f_fld0) dX34_get_26 h (fun v7 h => ?_)
    refine am_iload_n (x := a1) dX34_get_29 rfl rfl ?_
    refine fx_callVN (Mc := m_X0_fixedOf) (as := [va_rf v7, .int a1]) (cs := [0]) (r := v6) (f_clsC inf_X0 qs13 f_cls0) bm_X0_fixedOf q434 q436 (Nat.le_of_ble_eq_true rfl) dX34_get_30 h (fun b h => mt_X0_fixedOf (fx_k2r h (fun v8 σ9 h => ?_) (fun q σ' h => h.elim)))
    refine am_astore_n (x := v8) (L' := [(6, va_rf v8), (4, .int v2), (0, va_rf (some a0)), (2, .int a1)]) dX34_get_33 rfl (Nat.le_of_ble_eq_true rfl) rfl ?_
    refine am_aloadr_n (x := v8) dX34_get_34 rfl rfl ?_
    refine am_ifnullr (tgt := 43) dX34_get_35 (by decide) (fun c => ?_) (fun c => ?_)
    · have h := h.1 c
      refine am_aloadr_n (x := some a0) dX34_get_43 rfl rfl ?_
      refine fx_gr (k := 4) (f_fldC (ref := "PondHouse$Creature") inf_X34 (by decide) q2258 (Or.inl rfl) f_fld0) dX34_get_44 h (fun v12 h => ?_)
      refine am_iload_n (x := a1) dX34_get_47 rfl rfl ?_
      refine fx_ai3 dX34_get_48 h (fun v13 h => ?_)
      refine am_if_ne (tgt := 63) dX34_get_49 (by decide) (fun c => ?_) (fun c => ?_)
      · have h := h.1 c
        refine am_aloadr_n (x := some a0) dX34_get_63 rfl rfl ?_
        refine fx_gr (k := 3) (f_fldC (ref := "PondHouse$Creature") inf_X34 (by decide) q2256 (Or.inl rfl) f_fld0) dX34_get_64 h (fun v14 h => ?_)
        refine am_iload_n (x := a1) dX34_get_67 rfl rfl ?_
        refine fx_ai0 dX34_get_68 h (fun v15 h => ?_)
        exact am_iret rfl dX34_get_69 h
      · have h := h.2 c
        refine am_aloadr_n (x := some a0) dX34_get_52 rfl rfl ?_
        refine fx_gr (k := 5) (f_fldC (ref := "PondHouse$Creature") inf_X34 (by decide) q2260 (Or.inl rfl) f_fld0) dX34_get_53 h (fun v16 h => ?_)
        refine am_sipush (v := 1001) dX34_get_56 (by decide) ?_
        refine fx_callVN (Mc := m_X0_fails) (as := [.int 1001]) (cs := [0]) (r := v16) (f_clsC inf_X0 qs12 f_cls0) bm_X0_fails q438 q427 (Nat.le_of_ble_eq_true rfl) dX34_get_59 h (fun b h => mt_X0_fails (fx_k2r h (fun v17 σ18 h => ?_) (fun q σ' h => h.elim)))
        exact fx_throw (cs := [2]) dX34_get_62 h (fun q h => am_xout (by decide +kernel) h)
    · have h := h.2 c
      refine am_aloadr_n (x := v8) dX34_get_38 rfl rfl ?_
      refine fx_gi (k := 2) (f_fldC (ref := "PondHouse$Fixed") inf_X25 (by decide) q1008 (Or.inl rfl) f_fld0) dX34_get_39 h (fun v21 h => ?_)
      exact am_iret rfl dX34_get_42 h
  · have h := h.2 c
    refine am_aloadr_n (x := some a0) dX34_get_14 rfl rfl ?_
    refine fx_gr (k := 2) (f_fldC (ref := "PondHouse$Creature") inf_X34 (by decide) q2254 (Or.inl rfl) f_fld0) dX34_get_15 h (fun v22 h => ?_)
    refine am_iload_n (x := v2) dX34_get_18 rfl rfl ?_
    refine fx_ai0 dX34_get_19 h (fun v23 h => ?_)
    exact am_iret rfl dX34_get_20 h
theorem W_X34_set_f {G : am_G} {d : Nat} {a0 : Nat} {a1 : Int32} {a2 : Int32} {σ : am_S} {Q : am_S → Prop} {E : Nat → am_S → Prop} (h : f_gr σ (some a0) [31] 1 (fun v1 => f_o σ v1 [21] (fun b => W_X23_place G d b a1 σ (fun v2 σ3 => ((¬ v2 = (-1) → B_X34_set_30 G (d + 1) a0 a1 a2 v2 none σ3 Q E) ∧ (v2 = (-1) → f_gr σ3 (some a0) [31] 5 (fun v6 => f_gr σ3 (some a0) [31] 1 (fun v7 => f_o σ3 v6 [0] (fun b => W_X0_fixedOf G d b v7 a1 σ3 (fun v8 σ9 => B_X34_set_30 G (d + 1) a0 a1 a2 v2 v8 σ9 Q E)))))))))) : W_X34_set G (d + 1) a0 a1 a2 σ Q E := by
  unfold W_X34_set
  refine am_aloadr_n (x := some a0) dX34_set_0 rfl rfl ?_
  refine fx_gr (k := 1) (f_fldC (ref := "PondHouse$Creature") inf_X34 (by decide) q2251 (Or.inl rfl) f_fld0) dX34_set_1 h (fun v1 h => ?_)
  refine am_iload_n (x := a1) dX34_set_4 rfl rfl ?_
  refine fx_callV (Mc := m_X23_place) (as := [.int a1]) (cs := [21]) (r := v1) (f_clsC inf_X23 q258 f_cls0) bm_X23_place q433 q257 (Nat.le_of_ble_eq_true rfl) dX34_set_5 h (fun b h => mt_X23_place (fx_k2i h (fun v2 σ3 h => ?_) (fun q σ' h => h.elim)))
  refine am_istore_n (L' := [(6, .int v2), (0, va_rf (some a0)), (2, .int a1), (4, .int a2)]) dX34_set_8 rfl (Nat.le_of_ble_eq_true rfl) rfl ?_
  refine am_iload_n (x := v2) dX34_set_9 rfl rfl ?_
  refine am_iconst (v := (-1)) dX34_set_10 (by decide) ?_
  refine am_icmp_ne (tgt := 29) dX34_set_11 (by decide) (fun c => ?_) (fun c => ?_)
  · have h := h.1 c
    refine am_null dX34_set_29 ?_
    exact am_lss h rfl
  · have h := h.2 c
    refine am_aloadr_n (x := some a0) dX34_set_14 rfl rfl ?_
    refine fx_gr (k := 5) (f_fldC (ref := "PondHouse$Creature") inf_X34 (by decide) q2260 (Or.inl rfl) f_fld0) dX34_set_15 h (fun v6 h => ?_)
    refine am_aloadr_n (x := some a0) dX34_set_18 rfl rfl ?_
    refine fx_gr (k := 1) (f_fldC (ref := "PondHouse$Creature") inf_X34 (by decide) q2251 (Or.inl rfl) f_fld0) dX34_set_19 h (fun v7 h => ?_)
    refine am_iload_n (x := a1) dX34_set_22 rfl rfl ?_
    refine fx_callVN (Mc := m_X0_fixedOf) (as := [va_rf v7, .int a1]) (cs := [0]) (r := v6) (f_clsC inf_X0 qs13 f_cls0) bm_X0_fixedOf q434 q436 (Nat.le_of_ble_eq_true rfl) dX34_set_23 h (fun b h => mt_X0_fixedOf (fx_k2r h (fun v8 σ9 h => ?_) (fun q σ' h => h.elim)))
    refine am_goto (tgt := 30) dX34_set_26 (by decide) ?_
    exact am_lss h rfl
theorem B_X34_set_30_f {G : am_G} {d : Nat} {a0 : Nat} {x1 : Int32} {x2 : Int32} {x3 : Int32} {s0 : Option Nat} {σ : am_S} {Q : am_S → Prop} {E : Nat → am_S → Prop} (h : ((x3 = (-1) → ((s0 = none → f_gr σ (some a0) [31] 4 (fun v1 => f_ai σ v1 3 x1 (fun v2 => ((v2 = 0 → f_gr σ (some a0) [31] 5 (fun v3 => f_o σ v3 [0] (fun b => W_X0_fails G d b 1001 σ (fun v4 σ5 => f_o σ5 v4 [2] (fun q => E q σ5))))) ∧ (¬ v2 = 0 → f_gr σ (some a0) [31] 3 (fun v8 => f_si σ v8 0 x1 x2 (fun σ9 => Q σ9))))))) ∧ (¬ s0 = none → f_p σ s0 [23] 2 (.int x2) (fun σ10 => Q σ10)))) ∧ (¬ x3 = (-1) → f_gr σ (some a0) [31] 2 (fun v11 => f_si σ v11 0 x3 x2 (fun σ12 => Q σ12))))) : B_X34_set_30 G (d + 1) a0 x1 x2 x3 s0 σ Q E := by
  unfold B_X34_set_30
  refine am_astore (x := s0) (L' := [(8, va_rf s0), (0, va_rf (some a0)), (2, .int x1), (4, .int x2), (6, .int x3)]) dX34_set_30 (Nat.le_of_ble_eq_true rfl) rfl ?_
  refine am_iload_n (x := x3) dX34_set_32 rfl rfl ?_
  refine am_iconst (v := (-1)) dX34_set_33 (by decide) ?_
  refine am_icmp_eq (tgt := 47) dX34_set_34 (by decide) (fun c => ?_) (fun c => ?_)
  · have h := h.1 c
    refine am_aloadr (x := s0) dX34_set_47 rfl ?_
    refine am_ifnullr (tgt := 61) dX34_set_49 (by decide) (fun c => ?_) (fun c => ?_)
    · have h := h.1 c
      refine am_aloadr_n (x := some a0) dX34_set_61 rfl rfl ?_
      refine fx_gr (k := 4) (f_fldC (ref := "PondHouse$Creature") inf_X34 (by decide) q2258 (Or.inl rfl) f_fld0) dX34_set_62 h (fun v1 h => ?_)
      refine am_iload_n (x := x1) dX34_set_65 rfl rfl ?_
      refine fx_ai3 dX34_set_66 h (fun v2 h => ?_)
      refine am_if_eq (tgt := 80) dX34_set_67 (by decide) (fun c => ?_) (fun c => ?_)
      · have h := h.1 c
        refine am_aloadr_n (x := some a0) dX34_set_80 rfl rfl ?_
        refine fx_gr (k := 5) (f_fldC (ref := "PondHouse$Creature") inf_X34 (by decide) q2260 (Or.inl rfl) f_fld0) dX34_set_81 h (fun v3 h => ?_)
        refine am_sipush (v := 1001) dX34_set_84 (by decide) ?_
        refine fx_callVN (Mc := m_X0_fails) (as := [.int 1001]) (cs := [0]) (r := v3) (f_clsC inf_X0 qs12 f_cls0) bm_X0_fails q438 q427 (Nat.le_of_ble_eq_true rfl) dX34_set_87 h (fun b h => mt_X0_fails (fx_k2r h (fun v4 σ5 h => ?_) (fun q σ' h => h.elim)))
        exact fx_throw (cs := [2]) dX34_set_90 h (fun q h => am_xout (by decide +kernel) h)
      · have h := h.2 c
        refine am_aloadr_n (x := some a0) dX34_set_70 rfl rfl ?_
        refine fx_gr (k := 3) (f_fldC (ref := "PondHouse$Creature") inf_X34 (by decide) q2256 (Or.inl rfl) f_fld0) dX34_set_71 h (fun v8 h => ?_)
        refine am_iload_n (x := x1) dX34_set_74 rfl rfl ?_
        refine am_iload_n (x := x2) dX34_set_75 rfl rfl ?_
        refine fx_si0 dX34_set_76 h (fun σ9 h => ?_)
        refine am_goto (tgt := 91) dX34_set_77 (by decide) ?_
        exact am_vret rfl dX34_set_91 h
    · have h := h.2 c
      refine am_aloadr (x := s0) dX34_set_52 rfl ?_
      refine am_iload_n (x := x2) dX34_set_54 rfl rfl ?_
      refine fx_p (k := 2) (v := .int x2) (f_putC inf_X25 (by decide) rfl rfl q1008 (Or.inl rfl) f_put0) dX34_set_55 h (fun σ10 h => ?_)
      refine am_goto (tgt := 91) dX34_set_58 (by decide) ?_
      exact am_vret rfl dX34_set_91 h
  · have h := h.2 c
    refine am_aloadr_n (x := some a0) dX34_set_37 rfl rfl ?_
    refine fx_gr (k := 2) (f_fldC (ref := "PondHouse$Creature") inf_X34 (by decide) q2254 (Or.inl rfl) f_fld0) dX34_set_38 h (fun v11 h => ?_)
    refine am_iload_n (x := x3) dX34_set_41 rfl rfl ?_
    refine am_iload_n (x := x2) dX34_set_42 rfl rfl ?_
    refine fx_si0 dX34_set_43 h (fun σ12 h => ?_)
    refine am_goto (tgt := 91) dX34_set_44 (by decide) ?_
    exact am_vret rfl dX34_set_91 h
theorem W_X34_loses_f {G : am_G} {d : Nat} {a0 : Nat} {a1 : Int32} {a2 : Int32} {σ : am_S} {Q : am_S → Prop} (h : f_gr σ (some a0) [31] 3 (fun v1 => f_si σ v1 0 a1 a2 (fun σ2 => f_gr σ2 (some a0) [31] 4 (fun v3 => f_si σ2 v3 3 a1 1 (fun σ4 => Q σ4))))) : W_X34_loses G d a0 a1 a2 σ Q := by
  unfold W_X34_loses
  refine am_aloadr_n (x := some a0) dX34_loses_0 rfl rfl ?_
  refine fx_gr (k := 3) (f_fldC (ref := "PondHouse$Creature") inf_X34 (by decide) q2256 (Or.inl rfl) f_fld0) dX34_loses_1 h (fun v1 h => ?_)
  refine am_iload_n (x := a1) dX34_loses_4 rfl rfl ?_
  refine am_iload_n (x := a2) dX34_loses_5 rfl rfl ?_
  refine fx_si0 dX34_loses_6 h (fun σ2 h => ?_)
  refine am_aloadr_n (x := some a0) dX34_loses_7 rfl rfl ?_
  refine fx_gr (k := 4) (f_fldC (ref := "PondHouse$Creature") inf_X34 (by decide) q2258 (Or.inl rfl) f_fld0) dX34_loses_8 h (fun v3 h => ?_)
  refine am_iload_n (x := a1) dX34_loses_11 rfl rfl ?_
  refine am_iconst (v := 1) dX34_loses_12 (by decide) ?_
  refine fx_si3 dX34_loses_13 h (fun σ4 h => ?_)
  exact am_vret rfl dX34_loses_14 h
theorem W_X34_init_f {G : am_G} {d : Nat} {a0 : Nat} {a1 : Option Nat} {a2 : Int32} {a3 : Option Nat} {σ : am_S} {Q : am_S → Prop} (h : f_p σ (some a0) [31] 5 (va_rf a1) (fun σ1 => f_na G σ1 0 f_a0i 40 (fun n2 σ3 => f_p σ3 (some a0) [31] 3 (va_rf (some n2)) (fun σ4 => f_na G σ4 3 f_a0i 40 (fun n5 σ6 => f_p σ6 (some a0) [31] 4 (va_rf (some n5)) (fun σ7 => f_p σ7 (some a0) [31] 0 (.int a2) (fun σ8 => f_p σ8 (some a0) [31] 1 (va_rf a3) (fun σ9 => f_o σ9 a3 [21] (fun b => W_X23_all G d b σ9 (fun v10 σ11 => f_na G σ11 0 f_a0i v10 (fun n14 σ15 => f_p σ15 (some a0) [31] 2 (va_rf (some n14)) (fun σ16 => B_X34_init_48 G (d + 1) a0 a3 0 σ16 Q)))))))))))) : W_X34_init G (d + 1) a0 a1 a2 a3 σ Q := by
  unfold W_X34_init
  refine am_aloadr_n (x := some a0) dX34_init_0 rfl rfl ?_
  refine am_aloadr_n (x := a1) dX34_init_1 rfl rfl ?_
  refine fx_p (k := 5) (v := va_rf a1) (f_putC inf_X34 (by decide) (f_nrf _ _) (f_frf _ _) q2260 (Or.inr ⟨rfl, rfl, rfl⟩) f_put0) dX34_init_2 h (fun σ1 h => ?_)
  refine am_aloadr_n (x := some a0) dX34_init_5 rfl rfl ?_
  refine am_objInit q2246 q304 q305 (Nat.le_of_ble_eq_true rfl) dX34_init_6 ?_
  refine am_aloadr_n (x := some a0) dX34_init_9 rfl rfl ?_
  refine am_bipush (v := 40) dX34_init_10 (by decide) ?_
  refine fx_nai (atype := .int) (τ := 0) q281 rfl (fun N cA => rfl) dX34_init_12 h (fun n2 σ3 h => ?_)
  refine fx_p (k := 3) (v := va_rf (some n2)) (f_putC inf_X34 (by decide) (f_nra _ _) (f_fra _ _) q2256 (Or.inr ⟨rfl, rfl, rfl⟩) f_put0) dX34_init_14 h (fun σ4 h => ?_)
  refine am_aloadr_n (x := some a0) dX34_init_17 rfl rfl ?_
  refine am_bipush (v := 40) dX34_init_18 (by decide) ?_
  refine fx_nai (atype := .boolean) (τ := 3) q282 rfl (fun N cA => rfl) dX34_init_20 h (fun n5 σ6 h => ?_)
  refine fx_p (k := 4) (v := va_rf (some n5)) (f_putC inf_X34 (by decide) (f_nra _ _) (f_fra _ _) q2258 (Or.inr ⟨rfl, rfl, rfl⟩) f_put0) dX34_init_22 h (fun σ7 h => ?_)
  refine am_aloadr_n (x := some a0) dX34_init_25 rfl rfl ?_
  refine am_iload_n (x := a2) dX34_init_26 rfl rfl ?_
  refine fx_p (k := 0) (v := .int a2) (f_putC inf_X34 (by decide) rfl rfl q2249 (Or.inr ⟨rfl, rfl, rfl⟩) f_put0) dX34_init_27 h (fun σ8 h => ?_)
  refine am_aloadr_n (x := some a0) dX34_init_30 rfl rfl ?_
  refine am_aloadr_n (x := a3) dX34_init_31 rfl rfl ?_
  refine fx_p (k := 1) (v := va_rf a3) (f_putC inf_X34 (by decide) (f_nrf _ _) (f_frf _ _) q2251 (Or.inl rfl) f_put0) dX34_init_32 h (fun σ9 h => ?_)
  refine am_aloadr_n (x := some a0) dX34_init_35 rfl rfl ?_
  refine am_aloadr_n (x := a3) dX34_init_36 rfl rfl ?_
  refine fx_callV (Mc := m_X23_all) (as := []) (cs := [21]) (r := a3) (f_clsC inf_X23 q236 f_cls0) bm_X23_all q2247 q235 (Nat.le_of_ble_eq_true rfl) dX34_init_37 h (fun b h => mt_X23_all (fx_k2i h (fun v10 σ11 h => ?_) (fun q σ' h => h.elim)))
  refine fx_nai (atype := .int) (τ := 0) q281 rfl (fun N cA => rfl) dX34_init_40 h (fun n14 σ15 h => ?_)
  refine fx_p (k := 2) (v := va_rf (some n14)) (f_putC inf_X34 (by decide) (f_nra _ _) (f_fra _ _) q2254 (Or.inl rfl) f_put0) dX34_init_42 h (fun σ16 h => ?_)
  refine am_iconst (v := 0) dX34_init_45 (by decide) ?_
  refine am_istore (L' := [(8, .int 0), (0, va_rf (some a0)), (2, va_rf a1), (4, .int a2), (6, va_rf a3)]) dX34_init_46 (Nat.le_of_ble_eq_true rfl) rfl ?_
  exact am_lss h rfl
theorem B_X34_init_48_f {G : am_G} {d : Nat} {a0 : Nat} {x3 : Option Nat} {x4 : Int32} {σ : am_S} {Q : am_S → Prop} (h : f_gr σ (some a0) [31] 2 (fun v1 => f_al σ v1 0 (fun v2 => ((v2 ≤ x4 → Q σ) ∧ (¬ v2 ≤ x4 → f_gr σ (some a0) [31] 2 (fun v3 => f_o σ x3 [21] (fun b => W_X23_first G d b x4 σ (fun v4 σ5 => f_si σ5 v3 0 x4 v4 (fun σ8 => B_X34_init_48 G (d + 1) a0 x3 (x4 + 1) σ8 Q))))))))) : B_X34_init_48 G (d + 1) a0 x3 x4 σ Q := by
  unfold B_X34_init_48
  refine am_iload (x := x4) dX34_init_48 rfl ?_
  refine am_aloadr_n (x := some a0) dX34_init_50 rfl rfl ?_
  refine fx_gr (k := 2) (f_fldC (ref := "PondHouse$Creature") inf_X34 (by decide) q2254 (Or.inl rfl) f_fld0) dX34_init_51 h (fun v1 h => ?_)
  refine fx_al (τ := 0) rfl dX34_init_54 h (fun v2 h => ?_)
  refine am_icmp_ge (tgt := 77) dX34_init_55 (by decide) (fun c => ?_) (fun c => ?_)
  · have h := h.1 c
    exact am_vret rfl dX34_init_77 h
  · have h := h.2 c
    refine am_aloadr_n (x := some a0) dX34_init_58 rfl rfl ?_
    refine fx_gr (k := 2) (f_fldC (ref := "PondHouse$Creature") inf_X34 (by decide) q2254 (Or.inl rfl) f_fld0) dX34_init_59 h (fun v3 h => ?_)
    refine am_iload (x := x4) dX34_init_62 rfl ?_
    refine am_aloadr_n (x := x3) dX34_init_64 rfl rfl ?_
    refine am_iload (x := x4) dX34_init_65 rfl ?_
    refine fx_callV (Mc := m_X23_first) (as := [.int x4]) (cs := [21]) (r := x3) (f_clsC inf_X23 q274 f_cls0) bm_X23_first q2248 q273 (Nat.le_of_ble_eq_true rfl) dX34_init_67 h (fun b h => mt_X23_first (fx_k2i h (fun v4 σ5 h => ?_) (fun q σ' h => h.elim)))
    refine fx_si0 dX34_init_70 h (fun σ8 h => ?_)
    refine am_iinc (x := x4) (v := (x4 + 1)) (L' := [(8, .int (x4 + 1)), (0, va_rf (some a0)), (6, va_rf x3)]) dX34_init_71 rfl rfl (Nat.le_of_ble_eq_true rfl) rfl ?_
    refine am_goto (tgt := 48) dX34_init_74 (by decide) ?_
    exact am_lss h rfl
theorem W_X35_init_f {G : am_G} {d : Nat} {a0 : Nat} {a1 : Option Nat} {σ : am_S} {Q : am_S → Prop} (h : f_p σ (some a0) [32] 5 (.int 1) (fun σ1 => f_p σ1 (some a0) [32] 0 (va_rf a1) (fun σ2 => Q σ2))) : W_X35_init G (d + 1) a0 a1 σ Q := by
  unfold W_X35_init
  refine am_aloadr_n (x := some a0) dX35_init_0 rfl rfl ?_
  refine am_objInit q341 q304 q305 (Nat.le_of_ble_eq_true rfl) dX35_init_1 ?_
  refine am_aloadr_n (x := some a0) dX35_init_4 rfl rfl ?_
  refine am_iconst (v := 1) dX35_init_5 (by decide) ?_
  refine fx_p (k := 5) (v := .int 1) (f_putC inf_X35 (by decide) rfl rfl q348 (Or.inl rfl) f_put0) dX35_init_6 h (fun σ1 h => ?_)
  refine am_aloadr_n (x := some a0) dX35_init_9 rfl rfl ?_
  refine am_aloadr_n (x := a1) dX35_init_10 rfl rfl ?_
  refine fx_p (k := 0) (v := va_rf a1) (f_putC inf_X35 (by decide) (f_nrf _ _) (f_frf _ _) q342 (Or.inr ⟨rfl, rfl, rfl⟩) f_put0) dX35_init_11 h (fun σ2 h => ?_)
  exact am_vret rfl dX35_init_14 h
theorem W_X4_init_f {G : am_G} {d : Nat} {a0 : Nat} {a1 : Option Nat} {σ : am_S} {Q : am_S → Prop} (h : f_p σ (some a0) [4] 7 (va_rf a1) (fun σ1 => Q σ1)) : W_X4_init G (d + 1) a0 a1 σ Q := by
  unfold W_X4_init
  refine am_aloadr_n (x := some a0) dX4_init_0 rfl rfl ?_
  refine am_aloadr_n (x := a1) dX4_init_1 rfl rfl ?_
  refine fx_p (k := 7) (v := va_rf a1) (f_putC inf_X4 (by decide) (f_nrf _ _) (f_frf _ _) q1187 (Or.inr ⟨rfl, rfl, rfl⟩) f_put0) dX4_init_2 h (fun σ1 h => ?_)
  refine am_aloadr_n (x := some a0) dX4_init_5 rfl rfl ?_
  refine am_objInit q1178 q304 q305 (Nat.le_of_ble_eq_true rfl) dX4_init_6 ?_
  exact am_vret rfl dX4_init_9 h
theorem W_X4_begins_f {G : am_G} {d : Nat} {a0 : Nat} {σ : am_S} {Q : am_S → Prop} (h : f_p σ (some a0) [4] 0 (.int 0) (fun σ1 => f_p σ1 (some a0) [4] 4 (.int 0) (fun σ2 => f_o σ2 (some a0) [4] (fun b => W_X4_next G d b σ2 (fun σ4 => Q σ4))))) : W_X4_begins G (d + 1) a0 σ Q := by
  unfold W_X4_begins
  refine am_aloadr_n (x := some a0) dX4_begins_0 rfl rfl ?_
  refine am_iconst (v := 0) dX4_begins_1 (by decide) ?_
  refine fx_p (k := 0) (v := .int 0) (f_putC inf_X4 (by decide) rfl rfl q1179 (Or.inl rfl) f_put0) dX4_begins_2 h (fun σ1 h => ?_)
  refine am_aloadr_n (x := some a0) dX4_begins_5 rfl rfl ?_
  refine am_iconst (v := 0) dX4_begins_6 (by decide) ?_
  refine fx_p (k := 4) (v := .int 0) (f_putC inf_X4 (by decide) rfl rfl q1184 (Or.inl rfl) f_put0) dX4_begins_7 h (fun σ2 h => ?_)
  refine am_aloadr_n (x := some a0) dX4_begins_10 rfl rfl ?_
  refine fx_callV (Mc := m_X4_next) (as := []) (cs := [4]) (r := (some a0)) (f_clsC inf_X4 qs36 f_cls0) bm_X4_next q1396 q1398 (Nat.le_of_ble_eq_true rfl) dX4_begins_11 h (fun b h => mt_X4_next (fx_k2v h (fun σ4 h => ?_) (fun q σ' h => h.elim)))
  exact am_vret rfl dX4_begins_14 h
theorem W_X4_next_f {G : am_G} {d : Nat} {a0 : Nat} {σ : am_S} {Q : am_S → Prop} (h : f_o σ (some a0) [4] (fun b => W_X4_raw G d b 0 σ (fun v1 σ2 => ((v1 = 32 → f_gi σ2 (some a0) [4] 0 (fun v5 => f_p σ2 (some a0) [4] 0 (.int (v5 + 1)) (fun σ6 => W_X4_next G (d + 1) a0 σ6 Q))) ∧ (¬ v1 = 32 → f_o σ2 (some a0) [4] (fun b => W_X4_raw G d b 0 σ2 (fun v7 σ8 => ((¬ v7 = 10 → f_gi σ8 (some a0) [4] 0 (fun v11 => f_p σ8 (some a0) [4] 1 (.int v11) (fun σ12 => f_o σ12 (some a0) [4] (fun b => W_X4_raw G d b 0 σ12 (fun v13 σ14 => f_p σ14 (some a0) [4] 2 (.int 1) (fun σ17 => ((¬ v13 = (-1) → f_o σ17 (some a0) [4] (fun b => W_X4_isSmall G d b v13 σ17 (fun v18 σ19 => ((v18 = 0 → f_o σ19 (some a0) [4] (fun b => W_X4_isDigit G d b v13 σ19 (fun v22 σ23 => ((v22 = 0 → f_o σ23 (some a0) [4] (fun b => W_X4_sign G d b v13 σ23 (fun σ27 => Q σ27))) ∧ (¬ v22 = 0 → f_o σ23 (some a0) [4] (fun b => W_X4_digits G d b σ23 (fun σ31 => Q σ31))))))) ∧ (¬ v18 = 0 → f_o σ19 (some a0) [4] (fun b => W_X4_letters G d b σ19 (fun σ35 => Q σ35))))))) ∧ (v13 = (-1) → f_p σ17 (some a0) [4] 2 (.int 0) (fun σ38 => Q σ38))))))))) ∧ (v7 = 10 → f_gi σ8 (some a0) [4] 0 (fun v39 => f_p σ8 (some a0) [4] 0 (.int (v39 + 1)) (fun σ40 => W_X4_next G (d + 1) a0 σ40 Q))))))))))) : W_X4_next G (d + 1) a0 σ Q := by
  unfold W_X4_next
  refine am_aloadr_n (x := some a0) dX4_next_0 rfl rfl ?_
  refine am_iconst (v := 0) dX4_next_1 (by decide) ?_
  refine fx_callV (Mc := m_X4_raw) (as := [.int 0]) (cs := [4]) (r := (some a0)) (f_clsC inf_X4 qs37 f_cls0) bm_X4_raw q1400 q1402 (Nat.le_of_ble_eq_true rfl) dX4_next_2 h (fun b h => mt_X4_raw (fx_k2i h (fun v1 σ2 h => ?_) (fun q σ' h => h.elim)))
  refine am_bipush (v := 32) dX4_next_5 (by decide) ?_
  refine am_icmp_eq (tgt := 20) dX4_next_7 (by decide) (fun c => ?_) (fun c => ?_)
  · have h := h.1 c
    refine am_aloadr_n (x := some a0) dX4_next_20 rfl rfl ?_
    refine am_dup dX4_next_21 (am_rf_cat _) ?_
    refine fx_gi (k := 0) (f_fldC (ref := "PondHouse$Reader") inf_X4 (by decide) q1179 (Or.inl rfl) f_fld0) dX4_next_22 h (fun v5 h => ?_)
    refine am_iconst (v := 1) dX4_next_25 (by decide) ?_
    refine am_iadd dX4_next_26 ?_
    refine fx_p (k := 0) (v := .int (v5 + 1)) (f_putC inf_X4 (by decide) rfl rfl q1179 (Or.inl rfl) f_put0) dX4_next_27 h (fun σ6 h => ?_)
    refine am_goto (tgt := 0) dX4_next_30 (by decide) ?_
    exact am_lss h rfl
  · have h := h.2 c
    refine am_aloadr_n (x := some a0) dX4_next_10 rfl rfl ?_
    refine am_iconst (v := 0) dX4_next_11 (by decide) ?_
    refine fx_callV (Mc := m_X4_raw) (as := [.int 0]) (cs := [4]) (r := (some a0)) (f_clsC inf_X4 qs37 f_cls0) bm_X4_raw q1400 q1402 (Nat.le_of_ble_eq_true rfl) dX4_next_12 h (fun b h => mt_X4_raw (fx_k2i h (fun v7 σ8 h => ?_) (fun q σ' h => h.elim)))
    refine am_bipush (v := 10) dX4_next_15 (by decide) ?_
    refine am_icmp_ne (tgt := 33) dX4_next_17 (by decide) (fun c => ?_) (fun c => ?_)
    · have h := h.1 c
      refine am_aloadr_n (x := some a0) dX4_next_33 rfl rfl ?_
      refine am_aloadr_n (x := some a0) dX4_next_34 rfl rfl ?_
      refine fx_gi (k := 0) (f_fldC (ref := "PondHouse$Reader") inf_X4 (by decide) q1179 (Or.inl rfl) f_fld0) dX4_next_35 h (fun v11 h => ?_)
      refine fx_p (k := 1) (v := .int v11) (f_putC inf_X4 (by decide) rfl rfl q1180 (Or.inl rfl) f_put0) dX4_next_38 h (fun σ12 h => ?_)
      refine am_aloadr_n (x := some a0) dX4_next_41 rfl rfl ?_
      refine am_iconst (v := 0) dX4_next_42 (by decide) ?_
      refine fx_callV (Mc := m_X4_raw) (as := [.int 0]) (cs := [4]) (r := (some a0)) (f_clsC inf_X4 qs37 f_cls0) bm_X4_raw q1400 q1402 (Nat.le_of_ble_eq_true rfl) dX4_next_43 h (fun b h => mt_X4_raw (fx_k2i h (fun v13 σ14 h => ?_) (fun q σ' h => h.elim)))
      refine am_istore_n (L' := [(2, .int v13), (0, va_rf (some a0))]) dX4_next_46 rfl (Nat.le_of_ble_eq_true rfl) rfl ?_
      refine am_aloadr_n (x := some a0) dX4_next_47 rfl rfl ?_
      refine am_iconst (v := 1) dX4_next_48 (by decide) ?_
      refine fx_p (k := 2) (v := .int 1) (f_putC inf_X4 (by decide) rfl rfl q1181 (Or.inl rfl) f_put0) dX4_next_49 h (fun σ17 h => ?_)
      refine am_iload_n (x := v13) dX4_next_52 rfl rfl ?_
      refine am_iconst (v := (-1)) dX4_next_53 (by decide) ?_
      refine am_icmp_ne (tgt := 65) dX4_next_54 (by decide) (fun c => ?_) (fun c => ?_)
      · have h := h.1 c
        refine am_aloadr_n (x := some a0) dX4_next_65 rfl rfl ?_
        refine am_iload_n (x := v13) dX4_next_66 rfl rfl ?_
        refine fx_callV (Mc := m_X4_isSmall) (as := [.int v13]) (cs := [4]) (r := (some a0)) (f_clsC inf_X4 qs38 f_cls0) bm_X4_isSmall q1404 q1406 (Nat.le_of_ble_eq_true rfl) dX4_next_67 h (fun b h => mt_X4_isSmall (fx_k2i h (fun v18 σ19 h => ?_) (fun q σ' h => h.elim)))
        refine am_if_eq (tgt := 80) dX4_next_70 (by decide) (fun c => ?_) (fun c => ?_)
        · have h := h.1 c
          refine am_aloadr_n (x := some a0) dX4_next_80 rfl rfl ?_
          refine am_iload_n (x := v13) dX4_next_81 rfl rfl ?_
          refine fx_callV (Mc := m_X4_isDigit) (as := [.int v13]) (cs := [4]) (r := (some a0)) (f_clsC inf_X4 qs40 f_cls0) bm_X4_isDigit q1591 q1593 (Nat.le_of_ble_eq_true rfl) dX4_next_82 h (fun b h => mt_X4_isDigit (fx_k2i h (fun v22 σ23 h => ?_) (fun q σ' h => h.elim)))
          refine am_if_eq (tgt := 95) dX4_next_85 (by decide) (fun c => ?_) (fun c => ?_)
          · have h := h.1 c
            refine am_aloadr_n (x := some a0) dX4_next_95 rfl rfl ?_
            refine am_iload_n (x := v13) dX4_next_96 rfl rfl ?_
            refine fx_callV (Mc := m_X4_sign) (as := [.int v13]) (cs := [4]) (r := (some a0)) (f_clsC inf_X4 qs43 f_cls0) bm_X4_sign q1603 q1605 (Nat.le_of_ble_eq_true rfl) dX4_next_97 h (fun b h => mt_X4_sign (fx_k2v h (fun σ27 h => ?_) (fun q σ' h => h.elim)))
            exact am_vret rfl dX4_next_100 h
          · have h := h.2 c
            refine am_aloadr_n (x := some a0) dX4_next_88 rfl rfl ?_
            refine fx_callV (Mc := m_X4_digits) (as := []) (cs := [4]) (r := (some a0)) (f_clsC inf_X4 qs41 f_cls0) bm_X4_digits q1595 q1597 (Nat.le_of_ble_eq_true rfl) dX4_next_89 h (fun b h => mt_X4_digits (fx_k2v h (fun σ31 h => ?_) (fun q σ' h => h.elim)))
            refine am_goto (tgt := 100) dX4_next_92 (by decide) ?_
            exact am_vret rfl dX4_next_100 h
        · have h := h.2 c
          refine am_aloadr_n (x := some a0) dX4_next_73 rfl rfl ?_
          refine fx_callV (Mc := m_X4_letters) (as := []) (cs := [4]) (r := (some a0)) (f_clsC inf_X4 qs39 f_cls0) bm_X4_letters q1408 q1410 (Nat.le_of_ble_eq_true rfl) dX4_next_74 h (fun b h => mt_X4_letters (fx_k2v h (fun σ35 h => ?_) (fun q σ' h => h.elim)))
          refine am_goto (tgt := 100) dX4_next_77 (by decide) ?_
          exact am_vret rfl dX4_next_100 h
      · have h := h.2 c
        refine am_aloadr_n (x := some a0) dX4_next_57 rfl rfl ?_
        refine am_iconst (v := 0) dX4_next_58 (by decide) ?_
        refine fx_p (k := 2) (v := .int 0) (f_putC inf_X4 (by decide) rfl rfl q1181 (Or.inl rfl) f_put0) dX4_next_59 h (fun σ38 h => ?_)
        refine am_goto (tgt := 100) dX4_next_62 (by decide) ?_
        exact am_vret rfl dX4_next_100 h
    · have h := h.2 c
      refine am_aloadr_n (x := some a0) dX4_next_20 rfl rfl ?_
      refine am_dup dX4_next_21 (am_rf_cat _) ?_
      refine fx_gi (k := 0) (f_fldC (ref := "PondHouse$Reader") inf_X4 (by decide) q1179 (Or.inl rfl) f_fld0) dX4_next_22 h (fun v39 h => ?_)
      refine am_iconst (v := 1) dX4_next_25 (by decide) ?_
      refine am_iadd dX4_next_26 ?_
      refine fx_p (k := 0) (v := .int (v39 + 1)) (f_putC inf_X4 (by decide) rfl rfl q1179 (Or.inl rfl) f_put0) dX4_next_27 h (fun σ40 h => ?_)
      refine am_goto (tgt := 0) dX4_next_30 (by decide) ?_
      exact am_lss h rfl
theorem W_X4_raw_f {G : am_G} {d : Nat} {a0 : Nat} {a1 : Int32} {σ : am_S} {Q : Int32 → am_S → Prop} (h : f_gi σ (some a0) [4] 0 (fun v1 => f_gr σ (some a0) [4] 7 (fun v2 => f_gi σ v2 [0] 18 (fun v3 => ((v3 ≤ (v1 + a1) → Q (-1) σ) ∧ (¬ v3 ≤ (v1 + a1) → f_gr σ (some a0) [4] 7 (fun v4 => f_gr σ v4 [0] 17 (fun v5 => f_gi σ (some a0) [4] 0 (fun v6 => f_ai σ v5 1 (v6 + a1) (fun v7 => Q (v7 &&& 255) σ)))))))))) : W_X4_raw G d a0 a1 σ Q := by
  unfold W_X4_raw
  refine am_aloadr_n (x := some a0) dX4_raw_0 rfl rfl ?_
  refine fx_gi (k := 0) (f_fldC (ref := "PondHouse$Reader") inf_X4 (by decide) q1179 (Or.inl rfl) f_fld0) dX4_raw_1 h (fun v1 h => ?_)
  refine am_iload_n (x := a1) dX4_raw_4 rfl rfl ?_
  refine am_iadd dX4_raw_5 ?_
  refine am_aloadr_n (x := some a0) dX4_raw_6 rfl rfl ?_
  refine fx_gr (k := 7) (f_fldC (ref := "PondHouse$Reader") inf_X4 (by decide) q1187 (Or.inl rfl) f_fld0) dX4_raw_7 h (fun v2 h => ?_)
  refine fx_gi (k := 18) (f_fldN (ref := "PondHouse") inf_X0 (by decide) q1257 rfl f_fld0) dX4_raw_10 h (fun v3 h => ?_)
  refine am_icmp_ge (tgt := 37) dX4_raw_13 (by decide) (fun c => ?_) (fun c => ?_)
  · have h := h.1 c
    refine am_iconst (v := (-1)) dX4_raw_37 (by decide) ?_
    exact am_iret rfl dX4_raw_38 h
  · have h := h.2 c
    refine am_aloadr_n (x := some a0) dX4_raw_16 rfl rfl ?_
    refine fx_gr (k := 7) (f_fldC (ref := "PondHouse$Reader") inf_X4 (by decide) q1187 (Or.inl rfl) f_fld0) dX4_raw_17 h (fun v4 h => ?_)
    refine fx_gr (k := 17) (f_fldN (ref := "PondHouse") inf_X0 (by decide) q1255 rfl f_fld0) dX4_raw_20 h (fun v5 h => ?_)
    refine am_aloadr_n (x := some a0) dX4_raw_23 rfl rfl ?_
    refine fx_gi (k := 0) (f_fldC (ref := "PondHouse$Reader") inf_X4 (by decide) q1179 (Or.inl rfl) f_fld0) dX4_raw_24 h (fun v6 h => ?_)
    refine am_iload_n (x := a1) dX4_raw_27 rfl rfl ?_
    refine am_iadd dX4_raw_28 ?_
    refine fx_ai1 dX4_raw_29 h (fun v7 h => ?_)
    refine am_sipush (v := 255) dX4_raw_30 (by decide) ?_
    refine am_iand dX4_raw_33 ?_
    refine am_goto (tgt := 38) dX4_raw_34 (by decide) ?_
    exact am_iret rfl dX4_raw_38 h
theorem W_X4_isSmall_f {G : am_G} {d : Nat} {a0 : Nat} {a1 : Int32} {σ : am_S} {Q : Int32 → am_S → Prop} (h : ((a1 < 97 → Q 0 σ) ∧ (¬ a1 < 97 → ((122 < a1 → Q 0 σ) ∧ (¬ 122 < a1 → Q 1 σ))))) : W_X4_isSmall G d a0 a1 σ Q := by
  unfold W_X4_isSmall
  refine am_iload_n (x := a1) dX4_isSmall_0 rfl rfl ?_
  refine am_bipush (v := 97) dX4_isSmall_1 (by decide) ?_
  refine am_icmp_lt (tgt := 16) dX4_isSmall_3 (by decide) (fun c => ?_) (fun c => ?_)
  · have h := h.1 c
    refine am_iconst (v := 0) dX4_isSmall_16 (by decide) ?_
    exact am_zret rfl rfl dX4_isSmall_17 h
  · have h := h.2 c
    refine am_iload_n (x := a1) dX4_isSmall_6 rfl rfl ?_
    refine am_bipush (v := 122) dX4_isSmall_7 (by decide) ?_
    refine am_icmp_gt (tgt := 16) dX4_isSmall_9 (by decide) (fun c => ?_) (fun c => ?_)
    · have h := h.1 c
      refine am_iconst (v := 0) dX4_isSmall_16 (by decide) ?_
      exact am_zret rfl rfl dX4_isSmall_17 h
    · have h := h.2 c
      refine am_iconst (v := 1) dX4_isSmall_12 (by decide) ?_
      refine am_goto (tgt := 17) dX4_isSmall_13 (by decide) ?_
      exact am_zret rfl rfl dX4_isSmall_17 h
theorem W_X4_letters_f {G : am_G} {d : Nat} {a0 : Nat} {σ : am_S} {Q : am_S → Prop} (h : f_new G σ 34 4 tyJ3 (fun n1 σ2 => W_J3_init G d n1 8 σ2 (fun σ4 => B_X4_letters_10 G (d + 1) a0 (some n1) σ4 Q))) : W_X4_letters G (d + 1) a0 σ Q := by
  unfold W_X4_letters
  refine fx_new inf_J3 q1412 q1413 q171 dX4_letters_0 h (fun n1 σ2 h => ?_)
  refine am_dup dX4_letters_3 (am_rf_cat _) ?_
  refine am_bipush (v := 8) dX4_letters_4 (by decide) ?_
  refine fx_callI (Mc := m_J3_init) (as := [.int 8]) bm_J3_init q1414 q1415 rfl rfl (Nat.le_of_ble_eq_true rfl) dX4_letters_6 (mt_J3_init (fx_k2v h (fun σ4 h => ?_) (fun q σ' h => h.elim)))
  refine am_astore_n (x := (some n1)) (L' := [(2, va_rf (some n1)), (0, va_rf (some a0))]) dX4_letters_9 rfl (Nat.le_of_ble_eq_true rfl) rfl ?_
  exact am_lss h rfl
theorem B_X4_letters_10_f {G : am_G} {d : Nat} {a0 : Nat} {x1 : Option Nat} {σ : am_S} {Q : am_S → Prop} (h : f_o σ (some a0) [4] (fun b => W_X4_raw G d b 0 σ (fun v1 σ2 => f_o σ2 (some a0) [4] (fun b => W_X4_isSmall G d b v1 σ2 (fun v5 σ6 => ((v5 = 0 → f_o σ6 x1 [34] (fun b => W_J3_toString G d b σ6 (fun v9 σ10 => f_p σ10 (some a0) [4] 6 (va_rf v9) (fun σ13 => f_o σ13 x1 [34] (fun b => W_J3_length G d b σ13 (fun v14 σ15 => ((7 ≤ v14 → Q σ15) ∧ (¬ 7 ≤ v14 → f_gr σ15 (some a0) [4] 7 (fun v18 => f_gr σ15 v18 [0] 2 (fun v19 => f_gr σ15 (some a0) [4] 6 (fun v20 => W_X0_isAmong G d v19 v20 σ15 (fun v21 σ22 => ((v21 = 0 → f_p σ22 (some a0) [4] 2 (.int 2) (fun σ25 => Q σ25)) ∧ (¬ v21 = 0 → f_p σ22 (some a0) [4] 2 (.int 3) (fun σ26 => Q σ26))))))))))))))) ∧ (¬ v5 = 0 → f_o σ6 x1 [34] (fun b => W_J3_length G d b σ6 (fun v27 σ28 => ((7 ≤ v27 → f_gi σ28 (some a0) [4] 0 (fun v31 => f_p σ28 (some a0) [4] 0 (.int (v31 + 1)) (fun σ32 => B_X4_letters_10 G (d + 1) a0 x1 σ32 Q))) ∧ (¬ 7 ≤ v27 → f_o σ28 (some a0) [4] (fun b => W_X4_raw G d b 0 σ28 (fun v33 σ34 => f_o σ34 x1 [34] (fun b => W_J3_append G d b (((Int32.toUInt32 v33) % 65536).toInt32) σ34 (fun v37 σ38 => f_gi σ38 (some a0) [4] 0 (fun v41 => f_p σ38 (some a0) [4] 0 (.int (v41 + 1)) (fun σ42 => B_X4_letters_10 G (d + 1) a0 x1 σ42 Q))))))))))))))))) : B_X4_letters_10 G (d + 1) a0 x1 σ Q := by
  unfold B_X4_letters_10
  refine am_aloadr_n (x := some a0) dX4_letters_10 rfl rfl ?_
  refine am_aloadr_n (x := some a0) dX4_letters_11 rfl rfl ?_
  refine am_iconst (v := 0) dX4_letters_12 (by decide) ?_
  refine fx_callV (Mc := m_X4_raw) (as := [.int 0]) (cs := [4]) (r := (some a0)) (f_clsC inf_X4 qs37 f_cls0) bm_X4_raw q1400 q1402 (Nat.le_of_ble_eq_true rfl) dX4_letters_13 h (fun b h => mt_X4_raw (fx_k2i h (fun v1 σ2 h => ?_) (fun q σ' h => h.elim)))
  refine fx_callV (Mc := m_X4_isSmall) (as := [.int v1]) (cs := [4]) (r := (some a0)) (f_clsC inf_X4 qs38 f_cls0) bm_X4_isSmall q1404 q1406 (Nat.le_of_ble_eq_true rfl) dX4_letters_16 h (fun b h => mt_X4_isSmall (fx_k2i h (fun v5 σ6 h => ?_) (fun q σ' h => h.elim)))
  refine am_if_eq (tgt := 55) dX4_letters_19 (by decide) (fun c => ?_) (fun c => ?_)
  · have h := h.1 c
    refine am_aloadr_n (x := some a0) dX4_letters_55 rfl rfl ?_
    refine am_aloadr_n (x := x1) dX4_letters_56 rfl rfl ?_
    refine fx_callV (Mc := m_J3_toString) (as := []) (cs := [34]) (r := x1) (f_clsC inf_J3 q1528 f_cls0) bm_J3_toString q1526 q1527 (Nat.le_of_ble_eq_true rfl) dX4_letters_57 h (fun b h => mt_J3_toString (fx_k2r h (fun v9 σ10 h => ?_) (fun q σ' h => h.elim)))
    refine fx_p (k := 6) (v := va_rf v9) (f_putC inf_X4 (by decide) (f_nrf _ _) (f_frf _ _) q1186 (Or.inl rfl) f_put0) dX4_letters_60 h (fun σ13 h => ?_)
    refine am_aloadr_n (x := x1) dX4_letters_63 rfl rfl ?_
    refine fx_callV (Mc := m_J3_length) (as := []) (cs := [34]) (r := x1) (f_clsC inf_J3 q1445 f_cls0) bm_J3_length q1443 q1444 (Nat.le_of_ble_eq_true rfl) dX4_letters_64 h (fun b h => mt_J3_length (fx_k2i h (fun v14 σ15 h => ?_) (fun q σ' h => h.elim)))
    refine am_bipush (v := 7) dX4_letters_67 (by decide) ?_
    refine am_icmp_ge (tgt := 98) dX4_letters_69 (by decide) (fun c => ?_) (fun c => ?_)
    · have h := h.1 c
      exact am_vret rfl dX4_letters_98 h
    · have h := h.2 c
      refine am_aloadr_n (x := some a0) dX4_letters_72 rfl rfl ?_
      refine am_aloadr_n (x := some a0) dX4_letters_73 rfl rfl ?_
      refine fx_gr (k := 7) (f_fldC (ref := "PondHouse$Reader") inf_X4 (by decide) q1187 (Or.inl rfl) f_fld0) dX4_letters_74 h (fun v18 h => ?_)
      refine fx_gr (k := 2) (f_fldN (ref := "PondHouse") inf_X0 (by decide) q1238 rfl f_fld0) dX4_letters_77 h (fun v19 h => ?_)
      refine am_aloadr_n (x := some a0) dX4_letters_80 rfl rfl ?_
      refine fx_gr (k := 6) (f_fldC (ref := "PondHouse$Reader") inf_X4 (by decide) q1186 (Or.inl rfl) f_fld0) dX4_letters_81 h (fun v20 h => ?_)
      refine fx_callSN (Mc := m_X0_isAmong) (as := [va_rf v19, va_rf v20]) bm_X0_isAmong q1580 q1581 (Nat.le_of_ble_eq_true rfl) dX4_letters_84 (mt_X0_isAmong (fx_k2i h (fun v21 σ22 h => ?_) (fun q σ' h => h.elim)))
      refine am_if_eq (tgt := 94) dX4_letters_87 (by decide) (fun c => ?_) (fun c => ?_)
      · have h := h.1 c
        refine am_iconst (v := 2) dX4_letters_94 (by decide) ?_
        refine fx_p (k := 2) (v := .int 2) (f_putC inf_X4 (by decide) rfl rfl q1181 (Or.inl rfl) f_put0) dX4_letters_95 h (fun σ25 h => ?_)
        exact am_vret rfl dX4_letters_98 h
      · have h := h.2 c
        refine am_iconst (v := 3) dX4_letters_90 (by decide) ?_
        refine am_goto (tgt := 95) dX4_letters_91 (by decide) ?_
        refine fx_p (k := 2) (v := .int 3) (f_putC inf_X4 (by decide) rfl rfl q1181 (Or.inl rfl) f_put0) dX4_letters_95 h (fun σ26 h => ?_)
        exact am_vret rfl dX4_letters_98 h
  · have h := h.2 c
    refine am_aloadr_n (x := x1) dX4_letters_22 rfl rfl ?_
    refine fx_callV (Mc := m_J3_length) (as := []) (cs := [34]) (r := x1) (f_clsC inf_J3 q1445 f_cls0) bm_J3_length q1443 q1444 (Nat.le_of_ble_eq_true rfl) dX4_letters_23 h (fun b h => mt_J3_length (fx_k2i h (fun v27 σ28 h => ?_) (fun q σ' h => h.elim)))
    refine am_bipush (v := 7) dX4_letters_26 (by decide) ?_
    refine am_icmp_ge (tgt := 42) dX4_letters_28 (by decide) (fun c => ?_) (fun c => ?_)
    · have h := h.1 c
      refine am_aloadr_n (x := some a0) dX4_letters_42 rfl rfl ?_
      refine am_dup dX4_letters_43 (am_rf_cat _) ?_
      refine fx_gi (k := 0) (f_fldC (ref := "PondHouse$Reader") inf_X4 (by decide) q1179 (Or.inl rfl) f_fld0) dX4_letters_44 h (fun v31 h => ?_)
      refine am_iconst (v := 1) dX4_letters_47 (by decide) ?_
      refine am_iadd dX4_letters_48 ?_
      refine fx_p (k := 0) (v := .int (v31 + 1)) (f_putC inf_X4 (by decide) rfl rfl q1179 (Or.inl rfl) f_put0) dX4_letters_49 h (fun σ32 h => ?_)
      refine am_goto (tgt := 10) dX4_letters_52 (by decide) ?_
      exact am_lss h rfl
    · have h := h.2 c
      refine am_aloadr_n (x := x1) dX4_letters_31 rfl rfl ?_
      refine am_aloadr_n (x := some a0) dX4_letters_32 rfl rfl ?_
      refine am_iconst (v := 0) dX4_letters_33 (by decide) ?_
      refine fx_callV (Mc := m_X4_raw) (as := [.int 0]) (cs := [4]) (r := (some a0)) (f_clsC inf_X4 qs37 f_cls0) bm_X4_raw q1400 q1402 (Nat.le_of_ble_eq_true rfl) dX4_letters_34 h (fun b h => mt_X4_raw (fx_k2i h (fun v33 σ34 h => ?_) (fun q σ' h => h.elim)))
      refine am_i2c dX4_letters_37 rfl ?_
      refine fx_callV (Mc := m_J3_append) (as := [.int (((Int32.toUInt32 v33) % 65536).toInt32)]) (cs := [34]) (r := x1) (f_clsC inf_J3 q1452 f_cls0) bm_J3_append q1450 q1451 (Nat.le_of_ble_eq_true rfl) dX4_letters_38 h (fun b h => mt_J3_append (fx_k2r h (fun v37 σ38 h => ?_) (fun q σ' h => h.elim)))
      refine am_pop dX4_letters_41 (am_rf_cat _) ?_
      refine am_aloadr_n (x := some a0) dX4_letters_42 rfl rfl ?_
      refine am_dup dX4_letters_43 (am_rf_cat _) ?_
      refine fx_gi (k := 0) (f_fldC (ref := "PondHouse$Reader") inf_X4 (by decide) q1179 (Or.inl rfl) f_fld0) dX4_letters_44 h (fun v41 h => ?_)
      refine am_iconst (v := 1) dX4_letters_47 (by decide) ?_
      refine am_iadd dX4_letters_48 ?_
      refine fx_p (k := 0) (v := .int (v41 + 1)) (f_putC inf_X4 (by decide) rfl rfl q1179 (Or.inl rfl) f_put0) dX4_letters_49 h (fun σ42 h => ?_)
      refine am_goto (tgt := 10) dX4_letters_52 (by decide) ?_
      exact am_lss h rfl
theorem W_X4_isDigit_f {G : am_G} {d : Nat} {a0 : Nat} {a1 : Int32} {σ : am_S} {Q : Int32 → am_S → Prop} (h : ((a1 < 48 → Q 0 σ) ∧ (¬ a1 < 48 → ((57 < a1 → Q 0 σ) ∧ (¬ 57 < a1 → Q 1 σ))))) : W_X4_isDigit G d a0 a1 σ Q := by
  unfold W_X4_isDigit
  refine am_iload_n (x := a1) dX4_isDigit_0 rfl rfl ?_
  refine am_bipush (v := 48) dX4_isDigit_1 (by decide) ?_
  refine am_icmp_lt (tgt := 16) dX4_isDigit_3 (by decide) (fun c => ?_) (fun c => ?_)
  · have h := h.1 c
    refine am_iconst (v := 0) dX4_isDigit_16 (by decide) ?_
    exact am_zret rfl rfl dX4_isDigit_17 h
  · have h := h.2 c
    refine am_iload_n (x := a1) dX4_isDigit_6 rfl rfl ?_
    refine am_bipush (v := 57) dX4_isDigit_7 (by decide) ?_
    refine am_icmp_gt (tgt := 16) dX4_isDigit_9 (by decide) (fun c => ?_) (fun c => ?_)
    · have h := h.1 c
      refine am_iconst (v := 0) dX4_isDigit_16 (by decide) ?_
      exact am_zret rfl rfl dX4_isDigit_17 h
    · have h := h.2 c
      refine am_iconst (v := 1) dX4_isDigit_12 (by decide) ?_
      refine am_goto (tgt := 17) dX4_isDigit_13 (by decide) ?_
      exact am_zret rfl rfl dX4_isDigit_17 h
theorem W_X4_digits_f {G : am_G} {d : Nat} {a0 : Nat} {σ : am_S} {Q : am_S → Prop} (h : f_p σ (some a0) [4] 3 (.int 0) (fun σ1 => B_X4_digits_7 G (d + 1) a0 0 σ1 Q)) : W_X4_digits G (d + 1) a0 σ Q := by
  unfold W_X4_digits
  refine am_iconst (v := 0) dX4_digits_0 (by decide) ?_
  refine am_istore_n (L' := [(2, .int 0), (0, va_rf (some a0))]) dX4_digits_1 rfl (Nat.le_of_ble_eq_true rfl) rfl ?_
  refine am_aloadr_n (x := some a0) dX4_digits_2 rfl rfl ?_
  refine am_iconst (v := 0) dX4_digits_3 (by decide) ?_
  refine fx_p (k := 3) (v := .int 0) (f_putC inf_X4 (by decide) rfl rfl q1183 (Or.inl rfl) f_put0) dX4_digits_4 h (fun σ1 h => ?_)
  exact am_lss h rfl
theorem B_X4_digits_7_f {G : am_G} {d : Nat} {a0 : Nat} {x1 : Int32} {σ : am_S} {Q : am_S → Prop} (h : f_o σ (some a0) [4] (fun b => W_X4_raw G d b 0 σ (fun v1 σ2 => f_o σ2 (some a0) [4] (fun b => W_X4_isDigit G d b v1 σ2 (fun v5 σ6 => ((v5 = 0 → ((7 ≤ x1 → Q σ6) ∧ (¬ 7 ≤ x1 → f_o σ6 (some a0) [4] (fun b => W_X4_raw G d b 0 σ6 (fun v9 σ10 => f_o σ10 (some a0) [4] (fun b => W_X4_isSmall G d b v9 σ10 (fun v13 σ14 => ((¬ v13 = 0 → Q σ14) ∧ (v13 = 0 → f_o σ14 (some a0) [4] (fun b => W_X4_raw G d b 0 σ14 (fun v17 σ18 => f_o σ18 (some a0) [4] (fun b => W_X4_isGreat G d b v17 σ18 (fun v21 σ22 => ((¬ v21 = 0 → Q σ22) ∧ (v21 = 0 → f_p σ22 (some a0) [4] 2 (.int 4) (fun σ25 => Q σ25)))))))))))))))) ∧ (¬ v5 = 0 → ((6 ≤ x1 → f_gi σ6 (some a0) [4] 3 (fun v26 => f_p σ6 (some a0) [4] 3 (.int v26) (fun σ27 => f_gi σ27 (some a0) [4] 0 (fun v28 => f_p σ27 (some a0) [4] 0 (.int (v28 + 1)) (fun σ29 => B_X4_digits_7 G (d + 1) a0 (x1 + 1) σ29 Q))))) ∧ (¬ 6 ≤ x1 → f_gi σ6 (some a0) [4] 3 (fun v30 => f_o σ6 (some a0) [4] (fun b => W_X4_raw G d b 0 σ6 (fun v31 σ32 => f_p σ32 (some a0) [4] 3 (.int (((10 * v30) + v31) - 48)) (fun σ35 => f_gi σ35 (some a0) [4] 0 (fun v36 => f_p σ35 (some a0) [4] 0 (.int (v36 + 1)) (fun σ37 => B_X4_digits_7 G (d + 1) a0 (x1 + 1) σ37 Q))))))))))))))) : B_X4_digits_7 G (d + 1) a0 x1 σ Q := by
  unfold B_X4_digits_7
  refine am_aloadr_n (x := some a0) dX4_digits_7 rfl rfl ?_
  refine am_aloadr_n (x := some a0) dX4_digits_8 rfl rfl ?_
  refine am_iconst (v := 0) dX4_digits_9 (by decide) ?_
  refine fx_callV (Mc := m_X4_raw) (as := [.int 0]) (cs := [4]) (r := (some a0)) (f_clsC inf_X4 qs37 f_cls0) bm_X4_raw q1400 q1402 (Nat.le_of_ble_eq_true rfl) dX4_digits_10 h (fun b h => mt_X4_raw (fx_k2i h (fun v1 σ2 h => ?_) (fun q σ' h => h.elim)))
  refine fx_callV (Mc := m_X4_isDigit) (as := [.int v1]) (cs := [4]) (r := (some a0)) (f_clsC inf_X4 qs40 f_cls0) bm_X4_isDigit q1591 q1593 (Nat.le_of_ble_eq_true rfl) dX4_digits_13 h (fun b h => mt_X4_isDigit (fx_k2i h (fun v5 σ6 h => ?_) (fun q σ' h => h.elim)))
  refine am_if_eq (tgt := 68) dX4_digits_16 (by decide) (fun c => ?_) (fun c => ?_)
  · have h := h.1 c
    refine am_iload_n (x := x1) dX4_digits_68 rfl rfl ?_
    refine am_bipush (v := 7) dX4_digits_69 (by decide) ?_
    refine am_icmp_ge (tgt := 103) dX4_digits_71 (by decide) (fun c => ?_) (fun c => ?_)
    · have h := h.1 c
      exact am_vret rfl dX4_digits_103 h
    · have h := h.2 c
      refine am_aloadr_n (x := some a0) dX4_digits_74 rfl rfl ?_
      refine am_aloadr_n (x := some a0) dX4_digits_75 rfl rfl ?_
      refine am_iconst (v := 0) dX4_digits_76 (by decide) ?_
      refine fx_callV (Mc := m_X4_raw) (as := [.int 0]) (cs := [4]) (r := (some a0)) (f_clsC inf_X4 qs37 f_cls0) bm_X4_raw q1400 q1402 (Nat.le_of_ble_eq_true rfl) dX4_digits_77 h (fun b h => mt_X4_raw (fx_k2i h (fun v9 σ10 h => ?_) (fun q σ' h => h.elim)))
      refine fx_callV (Mc := m_X4_isSmall) (as := [.int v9]) (cs := [4]) (r := (some a0)) (f_clsC inf_X4 qs38 f_cls0) bm_X4_isSmall q1404 q1406 (Nat.le_of_ble_eq_true rfl) dX4_digits_80 h (fun b h => mt_X4_isSmall (fx_k2i h (fun v13 σ14 h => ?_) (fun q σ' h => h.elim)))
      refine am_if_ne (tgt := 103) dX4_digits_83 (by decide) (fun c => ?_) (fun c => ?_)
      · have h := h.1 c
        exact am_vret rfl dX4_digits_103 h
      · have h := h.2 c
        refine am_aloadr_n (x := some a0) dX4_digits_86 rfl rfl ?_
        refine am_aloadr_n (x := some a0) dX4_digits_87 rfl rfl ?_
        refine am_iconst (v := 0) dX4_digits_88 (by decide) ?_
        refine fx_callV (Mc := m_X4_raw) (as := [.int 0]) (cs := [4]) (r := (some a0)) (f_clsC inf_X4 qs37 f_cls0) bm_X4_raw q1400 q1402 (Nat.le_of_ble_eq_true rfl) dX4_digits_89 h (fun b h => mt_X4_raw (fx_k2i h (fun v17 σ18 h => ?_) (fun q σ' h => h.elim)))
        refine fx_callV (Mc := m_X4_isGreat) (as := [.int v17]) (cs := [4]) (r := (some a0)) (f_clsC inf_X4 qs42 f_cls0) bm_X4_isGreat q1599 q1601 (Nat.le_of_ble_eq_true rfl) dX4_digits_92 h (fun b h => mt_X4_isGreat (fx_k2i h (fun v21 σ22 h => ?_) (fun q σ' h => h.elim)))
        refine am_if_ne (tgt := 103) dX4_digits_95 (by decide) (fun c => ?_) (fun c => ?_)
        · have h := h.1 c
          exact am_vret rfl dX4_digits_103 h
        · have h := h.2 c
          refine am_aloadr_n (x := some a0) dX4_digits_98 rfl rfl ?_
          refine am_iconst (v := 4) dX4_digits_99 (by decide) ?_
          refine fx_p (k := 2) (v := .int 4) (f_putC inf_X4 (by decide) rfl rfl q1181 (Or.inl rfl) f_put0) dX4_digits_100 h (fun σ25 h => ?_)
          exact am_vret rfl dX4_digits_103 h
  · have h := h.2 c
    refine am_aloadr_n (x := some a0) dX4_digits_19 rfl rfl ?_
    refine am_iload_n (x := x1) dX4_digits_20 rfl rfl ?_
    refine am_bipush (v := 6) dX4_digits_21 (by decide) ?_
    refine am_icmp_ge (tgt := 45) dX4_digits_23 (by decide) (fun c => ?_) (fun c => ?_)
    · have h := h.1 c
      refine am_aloadr_n (x := some a0) dX4_digits_45 rfl rfl ?_
      refine fx_gi (k := 3) (f_fldC (ref := "PondHouse$Reader") inf_X4 (by decide) q1183 (Or.inl rfl) f_fld0) dX4_digits_46 h (fun v26 h => ?_)
      refine fx_p (k := 3) (v := .int v26) (f_putC inf_X4 (by decide) rfl rfl q1183 (Or.inl rfl) f_put0) dX4_digits_49 h (fun σ27 h => ?_)
      refine am_iinc (x := x1) (v := (x1 + 1)) (L' := [(2, .int (x1 + 1)), (0, va_rf (some a0))]) dX4_digits_52 rfl rfl (Nat.le_of_ble_eq_true rfl) rfl ?_
      refine am_aloadr_n (x := some a0) dX4_digits_55 rfl rfl ?_
      refine am_dup dX4_digits_56 (am_rf_cat _) ?_
      refine fx_gi (k := 0) (f_fldC (ref := "PondHouse$Reader") inf_X4 (by decide) q1179 (Or.inl rfl) f_fld0) dX4_digits_57 h (fun v28 h => ?_)
      refine am_iconst (v := 1) dX4_digits_60 (by decide) ?_
      refine am_iadd dX4_digits_61 ?_
      refine fx_p (k := 0) (v := .int (v28 + 1)) (f_putC inf_X4 (by decide) rfl rfl q1179 (Or.inl rfl) f_put0) dX4_digits_62 h (fun σ29 h => ?_)
      refine am_goto (tgt := 7) dX4_digits_65 (by decide) ?_
      exact am_lss h rfl
    · have h := h.2 c
      refine am_bipush (v := 10) dX4_digits_26 (by decide) ?_
      refine am_aloadr_n (x := some a0) dX4_digits_28 rfl rfl ?_
      refine fx_gi (k := 3) (f_fldC (ref := "PondHouse$Reader") inf_X4 (by decide) q1183 (Or.inl rfl) f_fld0) dX4_digits_29 h (fun v30 h => ?_)
      refine am_imul dX4_digits_32 ?_
      refine am_aloadr_n (x := some a0) dX4_digits_33 rfl rfl ?_
      refine am_iconst (v := 0) dX4_digits_34 (by decide) ?_
      refine fx_callV (Mc := m_X4_raw) (as := [.int 0]) (cs := [4]) (r := (some a0)) (f_clsC inf_X4 qs37 f_cls0) bm_X4_raw q1400 q1402 (Nat.le_of_ble_eq_true rfl) dX4_digits_35 h (fun b h => mt_X4_raw (fx_k2i h (fun v31 σ32 h => ?_) (fun q σ' h => h.elim)))
      refine am_iadd dX4_digits_38 ?_
      refine am_bipush (v := 48) dX4_digits_39 (by decide) ?_
      refine am_isub dX4_digits_41 ?_
      refine am_goto (tgt := 49) dX4_digits_42 (by decide) ?_
      refine fx_p (k := 3) (v := .int (((10 * v30) + v31) - 48)) (f_putC inf_X4 (by decide) rfl rfl q1183 (Or.inl rfl) f_put0) dX4_digits_49 h (fun σ35 h => ?_)
      refine am_iinc (x := x1) (v := (x1 + 1)) (L' := [(2, .int (x1 + 1)), (0, va_rf (some a0))]) dX4_digits_52 rfl rfl (Nat.le_of_ble_eq_true rfl) rfl ?_
      refine am_aloadr_n (x := some a0) dX4_digits_55 rfl rfl ?_
      refine am_dup dX4_digits_56 (am_rf_cat _) ?_
      refine fx_gi (k := 0) (f_fldC (ref := "PondHouse$Reader") inf_X4 (by decide) q1179 (Or.inl rfl) f_fld0) dX4_digits_57 h (fun v36 h => ?_)
      refine am_iconst (v := 1) dX4_digits_60 (by decide) ?_
      refine am_iadd dX4_digits_61 ?_
      refine fx_p (k := 0) (v := .int (v36 + 1)) (f_putC inf_X4 (by decide) rfl rfl q1179 (Or.inl rfl) f_put0) dX4_digits_62 h (fun σ37 h => ?_)
      refine am_goto (tgt := 7) dX4_digits_65 (by decide) ?_
      exact am_lss h rfl
theorem W_X4_isGreat_f {G : am_G} {d : Nat} {a0 : Nat} {a1 : Int32} {σ : am_S} {Q : Int32 → am_S → Prop} (h : ((a1 < 65 → Q 0 σ) ∧ (¬ a1 < 65 → ((90 < a1 → Q 0 σ) ∧ (¬ 90 < a1 → Q 1 σ))))) : W_X4_isGreat G d a0 a1 σ Q := by
  unfold W_X4_isGreat
  refine am_iload_n (x := a1) dX4_isGreat_0 rfl rfl ?_
  refine am_bipush (v := 65) dX4_isGreat_1 (by decide) ?_
  refine am_icmp_lt (tgt := 16) dX4_isGreat_3 (by decide) (fun c => ?_) (fun c => ?_)
  · have h := h.1 c
    refine am_iconst (v := 0) dX4_isGreat_16 (by decide) ?_
    exact am_zret rfl rfl dX4_isGreat_17 h
  · have h := h.2 c
    refine am_iload_n (x := a1) dX4_isGreat_6 rfl rfl ?_
    refine am_bipush (v := 90) dX4_isGreat_7 (by decide) ?_
    refine am_icmp_gt (tgt := 16) dX4_isGreat_9 (by decide) (fun c => ?_) (fun c => ?_)
    · have h := h.1 c
      refine am_iconst (v := 0) dX4_isGreat_16 (by decide) ?_
      exact am_zret rfl rfl dX4_isGreat_17 h
    · have h := h.2 c
      refine am_iconst (v := 1) dX4_isGreat_12 (by decide) ?_
      refine am_goto (tgt := 17) dX4_isGreat_13 (by decide) ?_
      exact am_zret rfl rfl dX4_isGreat_17 h
theorem W_X4_sign_f {G : am_G} {d : Nat} {a0 : Nat} {a1 : Int32} {σ : am_S} {Q : am_S → Prop} (h : ((¬ a1 = 61 → B_X4_sign_21 G (d + 1) a0 a1 0 σ Q) ∧ (a1 = 61 → f_o σ (some a0) [4] (fun b => W_X4_raw G d b 1 σ (fun v1 σ2 => ((¬ v1 = 61 → B_X4_sign_21 G (d + 1) a0 a1 0 σ2 Q) ∧ (v1 = 61 → B_X4_sign_21 G (d + 1) a0 a1 1 σ2 Q))))))) : W_X4_sign G (d + 1) a0 a1 σ Q := by
  unfold W_X4_sign
  refine am_iload_n (x := a1) dX4_sign_0 rfl rfl ?_
  refine am_bipush (v := 61) dX4_sign_1 (by decide) ?_
  refine am_icmp_ne (tgt := 20) dX4_sign_3 (by decide) (fun c => ?_) (fun c => ?_)
  · have h := h.1 c
    refine am_iconst (v := 0) dX4_sign_20 (by decide) ?_
    exact am_lss h rfl
  · have h := h.2 c
    refine am_aloadr_n (x := some a0) dX4_sign_6 rfl rfl ?_
    refine am_iconst (v := 1) dX4_sign_7 (by decide) ?_
    refine fx_callV (Mc := m_X4_raw) (as := [.int 1]) (cs := [4]) (r := (some a0)) (f_clsC inf_X4 qs37 f_cls0) bm_X4_raw q1400 q1402 (Nat.le_of_ble_eq_true rfl) dX4_sign_8 h (fun b h => mt_X4_raw (fx_k2i h (fun v1 σ2 h => ?_) (fun q σ' h => h.elim)))
    refine am_bipush (v := 61) dX4_sign_11 (by decide) ?_
    refine am_icmp_ne (tgt := 20) dX4_sign_13 (by decide) (fun c => ?_) (fun c => ?_)
    · have h := h.1 c
      refine am_iconst (v := 0) dX4_sign_20 (by decide) ?_
      exact am_lss h rfl
    · have h := h.2 c
      refine am_iconst (v := 1) dX4_sign_16 (by decide) ?_
      refine am_goto (tgt := 21) dX4_sign_17 (by decide) ?_
      exact am_lss h rfl
theorem B_X4_sign_21_f {G : am_G} {d : Nat} {a0 : Nat} {x1 : Int32} {s0 : Int32} {σ : am_S} {Q : am_S → Prop} (h : f_Go G σ (some (am_sk G 0)) (fun b => W_J4_indexOf G d b x1 σ (fun v1 σ2 => ((v1 < 0 → ((s0 = 0 → B_X4_sign_48 G (d + 1) a0 s0 x1 σ2 Q) ∧ (¬ s0 = 0 → B_X4_sign_48 G (d + 1) a0 s0 256 σ2 Q))) ∧ (¬ v1 < 0 → f_p σ2 (some a0) [4] 2 (.int 5) (fun σ5 => ((s0 = 0 → B_X4_sign_48 G (d + 1) a0 s0 x1 σ5 Q) ∧ (¬ s0 = 0 → B_X4_sign_48 G (d + 1) a0 s0 256 σ5 Q)))))))) : B_X4_sign_21 G (d + 1) a0 x1 s0 σ Q := by
  unfold B_X4_sign_21
  refine am_istore_n (L' := [(4, .int s0), (0, va_rf (some a0)), (2, .int x1)]) dX4_sign_21 rfl (Nat.le_of_ble_eq_true rfl) rfl ?_
  refine am_ldcS (i := 0) rfl q1607 dX4_sign_22 ?_
  refine am_iload_n (x := x1) dX4_sign_24 rfl rfl ?_
  refine fx_callGo (Mc := m_J4_indexOf) (as := [.int x1]) (r := (some (am_sk G 0))) q1610 bm_J4_indexOf q1608 q1609 (Nat.le_of_ble_eq_true rfl) dX4_sign_25 h (fun b h => mt_J4_indexOf (fx_k2i h (fun v1 σ2 h => ?_) (fun q σ' h => h.elim)))
  refine am_if_lt (tgt := 36) dX4_sign_28 (by decide) (fun c => ?_) (fun c => ?_)
  · have h := h.1 c
    refine am_aloadr_n (x := some a0) dX4_sign_36 rfl rfl ?_
    refine am_iload_n (x := s0) dX4_sign_37 rfl rfl ?_
    refine am_if_eq (tgt := 47) dX4_sign_38 (by decide) (fun c => ?_) (fun c => ?_)
    · have h := h.1 c
      refine am_iload_n (x := x1) dX4_sign_47 rfl rfl ?_
      exact am_lss h rfl
    · have h := h.2 c
      refine am_sipush (v := 256) dX4_sign_41 (by decide) ?_
      refine am_goto (tgt := 48) dX4_sign_44 (by decide) ?_
      exact am_lss h rfl
  · have h := h.2 c
    refine am_aloadr_n (x := some a0) dX4_sign_31 rfl rfl ?_
    refine am_iconst (v := 5) dX4_sign_32 (by decide) ?_
    refine fx_p (k := 2) (v := .int 5) (f_putC inf_X4 (by decide) rfl rfl q1181 (Or.inl rfl) f_put0) dX4_sign_33 h (fun σ5 h => ?_)
    refine am_aloadr_n (x := some a0) dX4_sign_36 rfl rfl ?_
    refine am_iload_n (x := s0) dX4_sign_37 rfl rfl ?_
    refine am_if_eq (tgt := 47) dX4_sign_38 (by decide) (fun c => ?_) (fun c => ?_)
    · have h := h.1 c
      refine am_iload_n (x := x1) dX4_sign_47 rfl rfl ?_
      exact am_lss h rfl
    · have h := h.2 c
      refine am_sipush (v := 256) dX4_sign_41 (by decide) ?_
      refine am_goto (tgt := 48) dX4_sign_44 (by decide) ?_
      exact am_lss h rfl
theorem B_X4_sign_48_f {G : am_G} {d : Nat} {a0 : Nat} {x2 : Int32} {s0 : Int32} {σ : am_S} {Q : am_S → Prop} (h : f_p σ (some a0) [4] 3 (.int s0) (fun σ1 => f_gi σ1 (some a0) [4] 0 (fun v2 => ((x2 = 0 → f_p σ1 (some a0) [4] 0 (.int (v2 + 1)) (fun σ3 => Q σ3)) ∧ (¬ x2 = 0 → f_p σ1 (some a0) [4] 0 (.int (v2 + 2)) (fun σ4 => Q σ4)))))) : B_X4_sign_48 G (d + 1) a0 x2 s0 σ Q := by
  unfold B_X4_sign_48
  refine fx_p (k := 3) (v := .int s0) (f_putC inf_X4 (by decide) rfl rfl q1183 (Or.inl rfl) f_put0) dX4_sign_48 h (fun σ1 h => ?_)
  refine am_aloadr_n (x := some a0) dX4_sign_51 rfl rfl ?_
  refine am_dup dX4_sign_52 (am_rf_cat _) ?_
  refine fx_gi (k := 0) (f_fldC (ref := "PondHouse$Reader") inf_X4 (by decide) q1179 (Or.inl rfl) f_fld0) dX4_sign_53 h (fun v2 h => ?_)
  refine am_iload_n (x := x2) dX4_sign_56 rfl rfl ?_
  refine am_if_eq (tgt := 64) dX4_sign_57 (by decide) (fun c => ?_) (fun c => ?_)
  · have h := h.1 c
    refine am_iconst (v := 1) dX4_sign_64 (by decide) ?_
    refine am_iadd dX4_sign_65 ?_
    refine fx_p (k := 0) (v := .int (v2 + 1)) (f_putC inf_X4 (by decide) rfl rfl q1179 (Or.inl rfl) f_put0) dX4_sign_66 h (fun σ3 h => ?_)
    exact am_vret rfl dX4_sign_69 h
  · have h := h.2 c
    refine am_iconst (v := 2) dX4_sign_60 (by decide) ?_
    refine am_goto (tgt := 65) dX4_sign_61 (by decide) ?_
    refine am_iadd dX4_sign_65 ?_
    refine fx_p (k := 0) (v := .int (v2 + 2)) (f_putC inf_X4 (by decide) rfl rfl q1179 (Or.inl rfl) f_put0) dX4_sign_66 h (fun σ4 h => ?_)
    exact am_vret rfl dX4_sign_69 h
theorem W_X4_takesName_f {G : am_G} {d : Nat} {a0 : Nat} {σ : am_S} {Q : Int32 → am_S → Prop} {E : Nat → am_S → Prop} (h : f_o σ (some a0) [4] (fun b => W_X4_name G d b σ (fun v1 σ2 => f_o σ2 (some a0) [4] (fun b => W_X4_next G d b σ2 (fun σ6 => Q v1 σ6))) E)) : W_X4_takesName G (d + 1) a0 σ Q E := by
  unfold W_X4_takesName
  refine am_aloadr_n (x := some a0) dX4_takesName_0 rfl rfl ?_
  refine fx_callV (Mc := m_X4_name) (as := []) (cs := [4]) (r := (some a0)) (f_clsC inf_X4 qs45 f_cls0) bm_X4_name q1678 q1680 (Nat.le_of_ble_eq_true rfl) dX4_takesName_1 h (fun b h => mt_X4_name (fx_k2i h (fun v1 σ2 h => ?_) (fun q σ' h => am_xout (by decide +kernel) h)))
  refine am_istore_n (L' := [(2, .int v1), (0, va_rf (some a0))]) dX4_takesName_4 rfl (Nat.le_of_ble_eq_true rfl) rfl ?_
  refine am_aloadr_n (x := some a0) dX4_takesName_5 rfl rfl ?_
  refine fx_callV (Mc := m_X4_next) (as := []) (cs := [4]) (r := (some a0)) (f_clsC inf_X4 qs36 f_cls0) bm_X4_next q1396 q1398 (Nat.le_of_ble_eq_true rfl) dX4_takesName_6 h (fun b h => mt_X4_next (fx_k2v h (fun σ6 h => ?_) (fun q σ' h => h.elim)))
  refine am_iload_n (x := v1) dX4_takesName_9 rfl rfl ?_
  exact am_iret rfl dX4_takesName_10 h
theorem W_X4_name_f {G : am_G} {d : Nat} {a0 : Nat} {σ : am_S} {Q : Int32 → am_S → Prop} {E : Nat → am_S → Prop} (h : f_gi σ (some a0) [4] 2 (fun v1 => ((v1 = 2 → f_gr σ (some a0) [4] 7 (fun v2 => f_gr σ (some a0) [4] 6 (fun v3 => f_o σ v2 [0] (fun b => W_X0_number G d b v3 σ (fun v4 σ5 => ((¬ v4 = (-1) → Q v4 σ5) ∧ (v4 = (-1) → f_gr σ5 (some a0) [4] 7 (fun v8 => f_gi σ5 (some a0) [4] 1 (fun v9 => f_o σ5 v8 [0] (fun b => W_X0_refused G d b 3 v9 σ5 (fun v10 σ11 => f_o σ11 v10 [3] (fun q => E q σ11)))))))))))) ∧ (¬ v1 = 2 → f_o σ (some a0) [4] (fun b => W_X4_bad G d b σ (fun v14 σ15 => f_o σ15 v14 [3] (fun q => E q σ15))))))) : W_X4_name G (d + 1) a0 σ Q E := by
  unfold W_X4_name
  refine am_aloadr_n (x := some a0) dX4_name_0 rfl rfl ?_
  refine fx_gi (k := 2) (f_fldC (ref := "PondHouse$Reader") inf_X4 (by decide) q1181 (Or.inl rfl) f_fld0) dX4_name_1 h (fun v1 h => ?_)
  refine am_iconst (v := 2) dX4_name_4 (by decide) ?_
  refine am_icmp_eq (tgt := 13) dX4_name_5 (by decide) (fun c => ?_) (fun c => ?_)
  · have h := h.1 c
    refine am_aloadr_n (x := some a0) dX4_name_13 rfl rfl ?_
    refine fx_gr (k := 7) (f_fldC (ref := "PondHouse$Reader") inf_X4 (by decide) q1187 (Or.inl rfl) f_fld0) dX4_name_14 h (fun v2 h => ?_)
    refine am_aloadr_n (x := some a0) dX4_name_17 rfl rfl ?_
    refine fx_gr (k := 6) (f_fldC (ref := "PondHouse$Reader") inf_X4 (by decide) q1186 (Or.inl rfl) f_fld0) dX4_name_18 h (fun v3 h => ?_)
    refine fx_callVN (Mc := m_X0_number) (as := [va_rf v3]) (cs := [0]) (r := v2) (f_clsC inf_X0 qs48 f_cls0) bm_X0_number q1690 q1692 (Nat.le_of_ble_eq_true rfl) dX4_name_21 h (fun b h => mt_X0_number (fx_k2i h (fun v4 σ5 h => ?_) (fun q σ' h => h.elim)))
    refine am_istore_n (L' := [(2, .int v4), (0, va_rf (some a0))]) dX4_name_24 rfl (Nat.le_of_ble_eq_true rfl) rfl ?_
    refine am_iload_n (x := v4) dX4_name_25 rfl rfl ?_
    refine am_iconst (v := (-1)) dX4_name_26 (by decide) ?_
    refine am_icmp_ne (tgt := 43) dX4_name_27 (by decide) (fun c => ?_) (fun c => ?_)
    · have h := h.1 c
      refine am_iload_n (x := v4) dX4_name_43 rfl rfl ?_
      exact am_iret rfl dX4_name_44 h
    · have h := h.2 c
      refine am_aloadr_n (x := some a0) dX4_name_30 rfl rfl ?_
      refine fx_gr (k := 7) (f_fldC (ref := "PondHouse$Reader") inf_X4 (by decide) q1187 (Or.inl rfl) f_fld0) dX4_name_31 h (fun v8 h => ?_)
      refine am_iconst (v := 3) dX4_name_34 (by decide) ?_
      refine am_aloadr_n (x := some a0) dX4_name_35 rfl rfl ?_
      refine fx_gi (k := 1) (f_fldC (ref := "PondHouse$Reader") inf_X4 (by decide) q1180 (Or.inl rfl) f_fld0) dX4_name_36 h (fun v9 h => ?_)
      refine fx_callVN (Mc := m_X0_refused) (as := [.int 3, .int v9]) (cs := [0]) (r := v8) (f_clsC inf_X0 qs47 f_cls0) bm_X0_refused q1686 q1688 (Nat.le_of_ble_eq_true rfl) dX4_name_39 h (fun b h => mt_X0_refused (fx_k2r h (fun v10 σ11 h => ?_) (fun q σ' h => h.elim)))
      exact fx_throw (cs := [3]) dX4_name_42 h (fun q h => am_xout (by decide +kernel) h)
  · have h := h.2 c
    refine am_aloadr_n (x := some a0) dX4_name_8 rfl rfl ?_
    refine fx_callV (Mc := m_X4_bad) (as := []) (cs := [4]) (r := (some a0)) (f_clsC inf_X4 qs46 f_cls0) bm_X4_bad q1682 q1684 (Nat.le_of_ble_eq_true rfl) dX4_name_9 h (fun b h => mt_X4_bad (fx_k2r h (fun v14 σ15 h => ?_) (fun q σ' h => h.elim)))
    exact fx_throw (cs := [3]) dX4_name_12 h (fun q h => am_xout (by decide +kernel) h)
theorem W_X4_bad_f {G : am_G} {d : Nat} {a0 : Nat} {σ : am_S} {Q : Option Nat → am_S → Prop} (h : f_gr σ (some a0) [4] 7 (fun v1 => f_gi σ (some a0) [4] 1 (fun v2 => f_o σ v1 [0] (fun b => W_X0_refused G d b 1 v2 σ (fun v3 σ4 => Q v3 σ4))))) : W_X4_bad G (d + 1) a0 σ Q := by
  unfold W_X4_bad
  refine am_aloadr_n (x := some a0) dX4_bad_0 rfl rfl ?_
  refine fx_gr (k := 7) (f_fldC (ref := "PondHouse$Reader") inf_X4 (by decide) q1187 (Or.inl rfl) f_fld0) dX4_bad_1 h (fun v1 h => ?_)
  refine am_iconst (v := 1) dX4_bad_4 (by decide) ?_
  refine am_aloadr_n (x := some a0) dX4_bad_5 rfl rfl ?_
  refine fx_gi (k := 1) (f_fldC (ref := "PondHouse$Reader") inf_X4 (by decide) q1180 (Or.inl rfl) f_fld0) dX4_bad_6 h (fun v2 h => ?_)
  refine fx_callVN (Mc := m_X0_refused) (as := [.int 1, .int v2]) (cs := [0]) (r := v1) (f_clsC inf_X0 qs47 f_cls0) bm_X0_refused q1686 q1688 (Nat.le_of_ble_eq_true rfl) dX4_bad_9 h (fun b h => mt_X0_refused (fx_k2r h (fun v3 σ4 h => ?_) (fun q σ' h => h.elim)))
  exact fx_aret rfl rfl dX4_bad_12 h
theorem W_X4_pond_f {G : am_G} {d : Nat} {a0 : Nat} {σ : am_S} {Q : Option Nat → am_S → Prop} {E : Nat → am_S → Prop} (h : f_o σ (some a0) [4] (fun b => W_X4_begins G d b σ (fun σ2 => f_new G σ2 7 1 tyX7 (fun n5 σ6 => W_X7_init G d n5 σ6 (fun σ8 => B_X4_pond_12 G (d + 1) a0 (some n5) σ8 Q E))))) : W_X4_pond G (d + 1) a0 σ Q E := by
  unfold W_X4_pond
  refine am_aloadr_n (x := some a0) dX4_pond_0 rfl rfl ?_
  refine fx_callV (Mc := m_X4_begins) (as := []) (cs := [4]) (r := (some a0)) (f_clsC inf_X4 q1394 f_cls0) bm_X4_begins q1702 q1393 (Nat.le_of_ble_eq_true rfl) dX4_pond_1 h (fun b h => mt_X4_begins (fx_k2v h (fun σ2 h => ?_) (fun q σ' h => h.elim)))
  refine fx_new inf_X7 q1703 q515 q181 dX4_pond_4 h (fun n5 σ6 h => ?_)
  refine am_dup dX4_pond_7 (am_rf_cat _) ?_
  refine fx_callIN (Mc := m_X7_init) (as := []) bm_X7_init q1704 q517 rfl rfl (Nat.le_of_ble_eq_true rfl) dX4_pond_8 (mt_X7_init (fx_k2v h (fun σ8 h => ?_) (fun q σ' h => h.elim)))
  refine am_astore_n (x := (some n5)) (L' := [(2, va_rf (some n5)), (0, va_rf (some a0))]) dX4_pond_11 rfl (Nat.le_of_ble_eq_true rfl) rfl ?_
  exact am_lss h rfl
theorem B_X4_pond_12_f {G : am_G} {d : Nat} {a0 : Nat} {x1 : Option Nat} {σ : am_S} {Q : Option Nat → am_S → Prop} {E : Nat → am_S → Prop} (h : f_o σ (some a0) [4] (fun b => W_X4_takesWord G d b (some (am_sk G 1)) σ (fun v1 σ2 => ((¬ v1 = 0 → f_o σ2 (some a0) [4] (fun b => W_X4_name G d b σ2 (fun v5 σ6 => W_X0_draft G d x1 v5 σ6 (fun v9 σ10 => ((v9 = none → f_o σ10 x1 [7] (fun b => W_X7_size G d b σ10 (fun v13 σ14 => ((¬ v13 = 12 → f_o σ14 (some a0) [4] (fun b => W_X4_next G d b σ14 (fun σ18 => f_new G σ18 8 13 tyX8 (fun n21 σ22 => f_o σ22 (some a0) [4] (fun b => W_X4_under G d b x1 σ22 (fun v23 σ24 => W_X8_init_2 G d n21 v5 v23 σ24 (fun σ28 => f_o σ28 x1 [7] (fun b => W_X7_add G d b (some n21) σ28 (fun σ32 => f_o σ32 (some a0) [4] (fun b => W_X4_needs G d b 123 σ32 (fun σ36 => B_X4_pond_104 G (d + 1) a0 x1 (some n21) σ36 Q E) E))))) E))))) ∧ (v13 = 12 → f_gr σ14 (some a0) [4] 7 (fun v39 => f_gi σ14 (some a0) [4] 1 (fun v40 => f_o σ14 v39 [0] (fun b => W_X0_refused G d b 5 v40 σ14 (fun v41 σ42 => f_o σ42 v41 [3] (fun q => E q σ42)))))))))) ∧ (¬ v9 = none → f_gr σ10 (some a0) [4] 7 (fun v45 => f_gi σ10 (some a0) [4] 1 (fun v46 => f_o σ10 v45 [0] (fun b => W_X0_refused G d b 4 v46 σ10 (fun v47 σ48 => f_o σ48 v47 [3] (fun q => E q σ48))))))))) E)) ∧ (v1 = 0 → f_o σ2 (some a0) [4] (fun b => W_X4_bad G d b σ2 (fun v51 σ52 => f_o σ52 v51 [3] (fun q => E q σ52)))))))) : B_X4_pond_12 G (d + 1) a0 x1 σ Q E := by
  unfold B_X4_pond_12
  refine am_aloadr_n (x := some a0) dX4_pond_12 rfl rfl ?_
  refine am_ldcwS (i := 1) rfl q1705 dX4_pond_13 ?_
  refine fx_callV (Mc := m_X4_takesWord) (as := [va_rf (some (am_sk G 1))]) (cs := [4]) (r := (some a0)) (f_clsC inf_X4 qs50 f_cls0) bm_X4_takesWord q1706 q1708 (Nat.le_of_ble_eq_true rfl) dX4_pond_16 h (fun b h => mt_X4_takesWord (fx_k2i h (fun v1 σ2 h => ?_) (fun q σ' h => h.elim)))
  refine am_if_ne (tgt := 27) dX4_pond_19 (by decide) (fun c => ?_) (fun c => ?_)
  · have h := h.1 c
    refine am_aloadr_n (x := some a0) dX4_pond_27 rfl rfl ?_
    refine fx_callV (Mc := m_X4_name) (as := []) (cs := [4]) (r := (some a0)) (f_clsC inf_X4 qs45 f_cls0) bm_X4_name q1678 q1680 (Nat.le_of_ble_eq_true rfl) dX4_pond_28 h (fun b h => mt_X4_name (fx_k2i h (fun v5 σ6 h => ?_) (fun q σ' h => am_xout (by decide +kernel) h)))
    refine am_istore_n (L' := [(4, .int v5), (0, va_rf (some a0)), (2, va_rf x1)]) dX4_pond_31 rfl (Nat.le_of_ble_eq_true rfl) rfl ?_
    refine am_aloadr_n (x := x1) dX4_pond_32 rfl rfl ?_
    refine am_iload_n (x := v5) dX4_pond_33 rfl rfl ?_
    refine fx_callSN (Mc := m_X0_draft) (as := [va_rf x1, .int v5]) bm_X0_draft q1715 q749 (Nat.le_of_ble_eq_true rfl) dX4_pond_34 (mt_X0_draft (fx_k2r h (fun v9 σ10 h => ?_) (fun q σ' h => h.elim)))
    refine am_ifnullr (tgt := 53) dX4_pond_37 (by decide) (fun c => ?_) (fun c => ?_)
    · have h := h.1 c
      refine am_aloadr_n (x := x1) dX4_pond_53 rfl rfl ?_
      refine fx_callV (Mc := m_X7_size) (as := []) (cs := [7]) (r := x1) (f_clsC inf_X7 q711 f_cls0) bm_X7_size q1716 q710 (Nat.le_of_ble_eq_true rfl) dX4_pond_54 h (fun b h => mt_X7_size (fx_k2i h (fun v13 σ14 h => ?_) (fun q σ' h => h.elim)))
      refine am_bipush (v := 12) dX4_pond_57 (by decide) ?_
      refine am_icmp_ne (tgt := 75) dX4_pond_59 (by decide) (fun c => ?_) (fun c => ?_)
      · have h := h.1 c
        refine am_aloadr_n (x := some a0) dX4_pond_75 rfl rfl ?_
        refine fx_callV (Mc := m_X4_next) (as := []) (cs := [4]) (r := (some a0)) (f_clsC inf_X4 qs36 f_cls0) bm_X4_next q1396 q1398 (Nat.le_of_ble_eq_true rfl) dX4_pond_76 h (fun b h => mt_X4_next (fx_k2v h (fun σ18 h => ?_) (fun q σ' h => h.elim)))
        refine fx_new inf_X8 q1717 q551 q186 dX4_pond_79 h (fun n21 σ22 h => ?_)
        refine am_dup dX4_pond_82 (am_rf_cat _) ?_
        refine am_iload_n (x := v5) dX4_pond_83 rfl rfl ?_
        refine am_aloadr_n (x := some a0) dX4_pond_84 rfl rfl ?_
        refine am_aloadr_n (x := x1) dX4_pond_85 rfl rfl ?_
        refine fx_callV (Mc := m_X4_under) (as := [va_rf x1]) (cs := [4]) (r := (some a0)) (f_clsC inf_X4 qs52 f_cls0) bm_X4_under q1718 q1720 (Nat.le_of_ble_eq_true rfl) dX4_pond_86 h (fun b h => mt_X4_under (fx_k2i h (fun v23 σ24 h => ?_) (fun q σ' h => am_xout (by decide +kernel) h)))
        refine fx_callI (Mc := m_X8_init_2) (as := [.int v5, .int v23]) bm_X8_init_2 q1723 q556 rfl rfl (Nat.le_of_ble_eq_true rfl) dX4_pond_89 (mt_X8_init_2 (fx_k2v h (fun σ28 h => ?_) (fun q σ' h => h.elim)))
        refine am_astore_n (x := (some n21)) (L' := [(6, va_rf (some n21)), (4, .int v5), (0, va_rf (some a0)), (2, va_rf x1)]) dX4_pond_92 rfl (Nat.le_of_ble_eq_true rfl) rfl ?_
        refine am_aloadr_n (x := x1) dX4_pond_93 rfl rfl ?_
        refine am_aloadr_n (x := (some n21)) dX4_pond_94 rfl rfl ?_
        refine fx_callV (Mc := m_X7_add) (as := [va_rf (some n21)]) (cs := [7]) (r := x1) (f_clsC inf_X7 q626 f_cls0) bm_X7_add q1724 q625 (Nat.le_of_ble_eq_true rfl) dX4_pond_95 h (fun b h => mt_X7_add (fx_k2v h (fun σ32 h => ?_) (fun q σ' h => h.elim)))
        refine am_aloadr_n (x := some a0) dX4_pond_98 rfl rfl ?_
        refine am_bipush (v := 123) dX4_pond_99 (by decide) ?_
        refine fx_callV (Mc := m_X4_needs) (as := [.int 123]) (cs := [4]) (r := (some a0)) (f_clsC inf_X4 qs53 f_cls0) bm_X4_needs q1725 q1727 (Nat.le_of_ble_eq_true rfl) dX4_pond_101 h (fun b h => mt_X4_needs (fx_k2v h (fun σ36 h => ?_) (fun q σ' h => am_xout (by decide +kernel) h)))
        exact am_lss h rfl
      · have h := h.2 c
        refine am_aloadr_n (x := some a0) dX4_pond_62 rfl rfl ?_
        refine fx_gr (k := 7) (f_fldC (ref := "PondHouse$Reader") inf_X4 (by decide) q1187 (Or.inl rfl) f_fld0) dX4_pond_63 h (fun v39 h => ?_)
        refine am_iconst (v := 5) dX4_pond_66 (by decide) ?_
        refine am_aloadr_n (x := some a0) dX4_pond_67 rfl rfl ?_
        refine fx_gi (k := 1) (f_fldC (ref := "PondHouse$Reader") inf_X4 (by decide) q1180 (Or.inl rfl) f_fld0) dX4_pond_68 h (fun v40 h => ?_)
        refine fx_callVN (Mc := m_X0_refused) (as := [.int 5, .int v40]) (cs := [0]) (r := v39) (f_clsC inf_X0 qs47 f_cls0) bm_X0_refused q1686 q1688 (Nat.le_of_ble_eq_true rfl) dX4_pond_71 h (fun b h => mt_X0_refused (fx_k2r h (fun v41 σ42 h => ?_) (fun q σ' h => h.elim)))
        exact fx_throw (cs := [3]) dX4_pond_74 h (fun q h => am_xout (by decide +kernel) h)
    · have h := h.2 c
      refine am_aloadr_n (x := some a0) dX4_pond_40 rfl rfl ?_
      refine fx_gr (k := 7) (f_fldC (ref := "PondHouse$Reader") inf_X4 (by decide) q1187 (Or.inl rfl) f_fld0) dX4_pond_41 h (fun v45 h => ?_)
      refine am_iconst (v := 4) dX4_pond_44 (by decide) ?_
      refine am_aloadr_n (x := some a0) dX4_pond_45 rfl rfl ?_
      refine fx_gi (k := 1) (f_fldC (ref := "PondHouse$Reader") inf_X4 (by decide) q1180 (Or.inl rfl) f_fld0) dX4_pond_46 h (fun v46 h => ?_)
      refine fx_callVN (Mc := m_X0_refused) (as := [.int 4, .int v46]) (cs := [0]) (r := v45) (f_clsC inf_X0 qs47 f_cls0) bm_X0_refused q1686 q1688 (Nat.le_of_ble_eq_true rfl) dX4_pond_49 h (fun b h => mt_X0_refused (fx_k2r h (fun v47 σ48 h => ?_) (fun q σ' h => h.elim)))
      exact fx_throw (cs := [3]) dX4_pond_52 h (fun q h => am_xout (by decide +kernel) h)
  · have h := h.2 c
    refine am_aloadr_n (x := some a0) dX4_pond_22 rfl rfl ?_
    refine fx_callV (Mc := m_X4_bad) (as := []) (cs := [4]) (r := (some a0)) (f_clsC inf_X4 qs46 f_cls0) bm_X4_bad q1682 q1684 (Nat.le_of_ble_eq_true rfl) dX4_pond_23 h (fun b h => mt_X4_bad (fx_k2r h (fun v51 σ52 h => ?_) (fun q σ' h => h.elim)))
    exact fx_throw (cs := [3]) dX4_pond_26 h (fun q h => am_xout (by decide +kernel) h)
theorem B_X4_pond_104_f {G : am_G} {d : Nat} {a0 : Nat} {x1 : Option Nat} {x3 : Option Nat} {σ : am_S} {Q : Option Nat → am_S → Prop} {E : Nat → am_S → Prop} (h : f_o σ (some a0) [4] (fun b => W_X4_isMember G d b σ (fun v1 σ2 => ((v1 = 0 → f_o σ2 (some a0) [4] (fun b => W_X4_needs G d b 125 σ2 (fun σ6 => f_gi σ6 (some a0) [4] 2 (fun v9 => ((¬ v9 = 0 → B_X4_pond_12 G (d + 1) a0 x1 σ6 Q E) ∧ (v9 = 0 → Q x1 σ6)))) E)) ∧ (¬ v1 = 0 → f_o σ2 (some a0) [4] (fun b => W_X4_member G d b x3 x1 σ2 (fun v10 σ11 => f_o σ11 x3 [8] (fun b => W_X8_add G d b v10 σ11 (fun σ15 => B_X4_pond_104 G (d + 1) a0 x1 x3 σ15 Q E))) E)))))) : B_X4_pond_104 G (d + 1) a0 x1 x3 σ Q E := by
  unfold B_X4_pond_104
  refine am_aloadr_n (x := some a0) dX4_pond_104 rfl rfl ?_
  refine fx_callV (Mc := m_X4_isMember) (as := []) (cs := [4]) (r := (some a0)) (f_clsC inf_X4 qs56 f_cls0) bm_X4_isMember q1737 q1739 (Nat.le_of_ble_eq_true rfl) dX4_pond_105 h (fun b h => mt_X4_isMember (fx_k2i h (fun v1 σ2 h => ?_) (fun q σ' h => h.elim)))
  refine am_if_eq (tgt := 124) dX4_pond_108 (by decide) (fun c => ?_) (fun c => ?_)
  · have h := h.1 c
    refine am_aloadr_n (x := some a0) dX4_pond_124 rfl rfl ?_
    refine am_bipush (v := 125) dX4_pond_125 (by decide) ?_
    refine fx_callV (Mc := m_X4_needs) (as := [.int 125]) (cs := [4]) (r := (some a0)) (f_clsC inf_X4 qs53 f_cls0) bm_X4_needs q1725 q1727 (Nat.le_of_ble_eq_true rfl) dX4_pond_127 h (fun b h => mt_X4_needs (fx_k2v h (fun σ6 h => ?_) (fun q σ' h => am_xout (by decide +kernel) h)))
    refine am_aloadr_n (x := some a0) dX4_pond_130 rfl rfl ?_
    refine fx_gi (k := 2) (f_fldC (ref := "PondHouse$Reader") inf_X4 (by decide) q1181 (Or.inl rfl) f_fld0) dX4_pond_131 h (fun v9 h => ?_)
    refine am_if_ne (tgt := 12) dX4_pond_134 (by decide) (fun c => ?_) (fun c => ?_)
    · have h := h.1 c
      exact am_lss h rfl
    · have h := h.2 c
      refine am_aloadr_n (x := x1) dX4_pond_137 rfl rfl ?_
      exact fx_aret rfl rfl dX4_pond_138 h
  · have h := h.2 c
    refine am_aloadr_n (x := x3) dX4_pond_111 rfl rfl ?_
    refine am_aloadr_n (x := some a0) dX4_pond_112 rfl rfl ?_
    refine am_aloadr_n (x := x3) dX4_pond_113 rfl rfl ?_
    refine am_aloadr_n (x := x1) dX4_pond_114 rfl rfl ?_
    refine fx_callV (Mc := m_X4_member) (as := [va_rf x3, va_rf x1]) (cs := [4]) (r := (some a0)) (f_clsC inf_X4 qs57 f_cls0) bm_X4_member q1745 q1747 (Nat.le_of_ble_eq_true rfl) dX4_pond_115 h (fun b h => mt_X4_member (fx_k2r h (fun v10 σ11 h => ?_) (fun q σ' h => am_xout (by decide +kernel) h)))
    refine fx_callV (Mc := m_X8_add) (as := [va_rf v10]) (cs := [8]) (r := x3) (f_clsC inf_X8 q796 f_cls0) bm_X8_add q2047 q795 (Nat.le_of_ble_eq_true rfl) dX4_pond_118 h (fun b h => mt_X8_add (fx_k2v h (fun σ15 h => ?_) (fun q σ' h => h.elim)))
    refine am_goto (tgt := 104) dX4_pond_121 (by decide) ?_
    exact am_lss h rfl
theorem W_X4_takesWord_f {G : am_G} {d : Nat} {a0 : Nat} {a1 : Option Nat} {σ : am_S} {Q : Int32 → am_S → Prop} (h : f_o σ (some a0) [4] (fun b => W_X4_isWord G d b a1 σ (fun v1 σ2 => ((¬ v1 = 0 → f_o σ2 (some a0) [4] (fun b => W_X4_next G d b σ2 (fun σ6 => Q 1 σ6))) ∧ (v1 = 0 → Q 0 σ2))))) : W_X4_takesWord G (d + 1) a0 a1 σ Q := by
  unfold W_X4_takesWord
  refine am_aloadr_n (x := some a0) dX4_takesWord_0 rfl rfl ?_
  refine am_aloadr_n (x := a1) dX4_takesWord_1 rfl rfl ?_
  refine fx_callV (Mc := m_X4_isWord) (as := [va_rf a1]) (cs := [4]) (r := (some a0)) (f_clsC inf_X4 qs51 f_cls0) bm_X4_isWord q1710 q1712 (Nat.le_of_ble_eq_true rfl) dX4_takesWord_2 h (fun b h => mt_X4_isWord (fx_k2i h (fun v1 σ2 h => ?_) (fun q σ' h => h.elim)))
  refine am_if_ne (tgt := 10) dX4_takesWord_5 (by decide) (fun c => ?_) (fun c => ?_)
  · have h := h.1 c
    refine am_aloadr_n (x := some a0) dX4_takesWord_10 rfl rfl ?_
    refine fx_callV (Mc := m_X4_next) (as := []) (cs := [4]) (r := (some a0)) (f_clsC inf_X4 qs36 f_cls0) bm_X4_next q1396 q1398 (Nat.le_of_ble_eq_true rfl) dX4_takesWord_11 h (fun b h => mt_X4_next (fx_k2v h (fun σ6 h => ?_) (fun q σ' h => h.elim)))
    refine am_iconst (v := 1) dX4_takesWord_14 (by decide) ?_
    exact am_zret rfl rfl dX4_takesWord_15 h
  · have h := h.2 c
    refine am_iconst (v := 0) dX4_takesWord_8 (by decide) ?_
    exact am_zret rfl rfl dX4_takesWord_9 h
theorem W_X4_isWord_f {G : am_G} {d : Nat} {a0 : Nat} {a1 : Option Nat} {σ : am_S} {Q : Int32 → am_S → Prop} (h : f_gi σ (some a0) [4] 2 (fun v1 => ((¬ v1 = 3 → Q 0 σ) ∧ (v1 = 3 → f_gr σ (some a0) [4] 6 (fun v2 => f_Go G σ v2 (fun b => W_J4_equals G d b a1 σ (fun v3 σ4 => ((v3 = 0 → Q 0 σ4) ∧ (¬ v3 = 0 → Q 1 σ4))))))))) : W_X4_isWord G (d + 1) a0 a1 σ Q := by
  unfold W_X4_isWord
  refine am_aloadr_n (x := some a0) dX4_isWord_0 rfl rfl ?_
  refine fx_gi (k := 2) (f_fldC (ref := "PondHouse$Reader") inf_X4 (by decide) q1181 (Or.inl rfl) f_fld0) dX4_isWord_1 h (fun v1 h => ?_)
  refine am_iconst (v := 3) dX4_isWord_4 (by decide) ?_
  refine am_icmp_ne (tgt := 23) dX4_isWord_5 (by decide) (fun c => ?_) (fun c => ?_)
  · have h := h.1 c
    refine am_iconst (v := 0) dX4_isWord_23 (by decide) ?_
    exact am_zret rfl rfl dX4_isWord_24 h
  · have h := h.2 c
    refine am_aloadr_n (x := some a0) dX4_isWord_8 rfl rfl ?_
    refine fx_gr (k := 6) (f_fldC (ref := "PondHouse$Reader") inf_X4 (by decide) q1186 (Or.inl rfl) f_fld0) dX4_isWord_9 h (fun v2 h => ?_)
    refine am_aloadr_n (x := a1) dX4_isWord_12 rfl rfl ?_
    refine fx_callGo (Mc := m_J4_equals) (as := [va_rf a1]) (r := v2) q1585 bm_J4_equals q1714 q1584 (Nat.le_of_ble_eq_true rfl) dX4_isWord_13 h (fun b h => mt_J4_equals (fx_k2i h (fun v3 σ4 h => ?_) (fun q σ' h => h.elim)))
    refine am_if_eq (tgt := 23) dX4_isWord_16 (by decide) (fun c => ?_) (fun c => ?_)
    · have h := h.1 c
      refine am_iconst (v := 0) dX4_isWord_23 (by decide) ?_
      exact am_zret rfl rfl dX4_isWord_24 h
    · have h := h.2 c
      refine am_iconst (v := 1) dX4_isWord_19 (by decide) ?_
      refine am_goto (tgt := 24) dX4_isWord_20 (by decide) ?_
      exact am_zret rfl rfl dX4_isWord_24 h
theorem W_X4_under_f {G : am_G} {d : Nat} {a0 : Nat} {a1 : Option Nat} {σ : am_S} {Q : Int32 → am_S → Prop} {E : Nat → am_S → Prop} (h : f_o σ (some a0) [4] (fun b => W_X4_takesWord G d b (some (am_sk G 2)) σ (fun v1 σ2 => ((¬ v1 = 0 → f_o σ2 (some a0) [4] (fun b => W_X4_name G d b σ2 (fun v5 σ6 => ((a1 = none → f_o σ6 (some a0) [4] (fun b => W_X4_next G d b σ6 (fun σ10 => Q v5 σ10))) ∧ (¬ a1 = none → W_X0_draft G d a1 v5 σ6 (fun v13 σ14 => ((¬ v13 = none → f_o σ14 (some a0) [4] (fun b => W_X4_next G d b σ14 (fun σ18 => Q v5 σ18))) ∧ (v13 = none → f_gr σ14 (some a0) [4] 7 (fun v21 => f_gi σ14 (some a0) [4] 1 (fun v22 => f_o σ14 v21 [0] (fun b => W_X0_refused G d b 4 v22 σ14 (fun v23 σ24 => f_o σ24 v23 [3] (fun q => E q σ24))))))))))) E)) ∧ (v1 = 0 → Q (-1) σ2))))) : W_X4_under G (d + 1) a0 a1 σ Q E := by
  unfold W_X4_under
  refine am_aloadr_n (x := some a0) dX4_under_0 rfl rfl ?_
  refine am_ldcwS (i := 2) rfl q1722 dX4_under_1 ?_
  refine fx_callV (Mc := m_X4_takesWord) (as := [va_rf (some (am_sk G 2))]) (cs := [4]) (r := (some a0)) (f_clsC inf_X4 qs50 f_cls0) bm_X4_takesWord q1706 q1708 (Nat.le_of_ble_eq_true rfl) dX4_under_4 h (fun b h => mt_X4_takesWord (fx_k2i h (fun v1 σ2 h => ?_) (fun q σ' h => h.elim)))
  refine am_if_ne (tgt := 12) dX4_under_7 (by decide) (fun c => ?_) (fun c => ?_)
  · have h := h.1 c
    refine am_aloadr_n (x := some a0) dX4_under_12 rfl rfl ?_
    refine fx_callV (Mc := m_X4_name) (as := []) (cs := [4]) (r := (some a0)) (f_clsC inf_X4 qs45 f_cls0) bm_X4_name q1678 q1680 (Nat.le_of_ble_eq_true rfl) dX4_under_13 h (fun b h => mt_X4_name (fx_k2i h (fun v5 σ6 h => ?_) (fun q σ' h => am_xout (by decide +kernel) h)))
    refine am_istore_n (L' := [(4, .int v5), (0, va_rf (some a0)), (2, va_rf a1)]) dX4_under_16 rfl (Nat.le_of_ble_eq_true rfl) rfl ?_
    refine am_aloadr_n (x := a1) dX4_under_17 rfl rfl ?_
    refine am_ifnullr (tgt := 42) dX4_under_18 (by decide) (fun c => ?_) (fun c => ?_)
    · have h := h.1 c
      refine am_aloadr_n (x := some a0) dX4_under_42 rfl rfl ?_
      refine fx_callV (Mc := m_X4_next) (as := []) (cs := [4]) (r := (some a0)) (f_clsC inf_X4 qs36 f_cls0) bm_X4_next q1396 q1398 (Nat.le_of_ble_eq_true rfl) dX4_under_43 h (fun b h => mt_X4_next (fx_k2v h (fun σ10 h => ?_) (fun q σ' h => h.elim)))
      refine am_iload_n (x := v5) dX4_under_46 rfl rfl ?_
      exact am_iret rfl dX4_under_47 h
    · have h := h.2 c
      refine am_aloadr_n (x := a1) dX4_under_21 rfl rfl ?_
      refine am_iload_n (x := v5) dX4_under_22 rfl rfl ?_
      refine fx_callSN (Mc := m_X0_draft) (as := [va_rf a1, .int v5]) bm_X0_draft q1715 q749 (Nat.le_of_ble_eq_true rfl) dX4_under_23 (mt_X0_draft (fx_k2r h (fun v13 σ14 h => ?_) (fun q σ' h => h.elim)))
      refine am_ifnonnullr (tgt := 42) dX4_under_26 (by decide) (fun c => ?_) (fun c => ?_)
      · have h := h.1 c
        refine am_aloadr_n (x := some a0) dX4_under_42 rfl rfl ?_
        refine fx_callV (Mc := m_X4_next) (as := []) (cs := [4]) (r := (some a0)) (f_clsC inf_X4 qs36 f_cls0) bm_X4_next q1396 q1398 (Nat.le_of_ble_eq_true rfl) dX4_under_43 h (fun b h => mt_X4_next (fx_k2v h (fun σ18 h => ?_) (fun q σ' h => h.elim)))
        refine am_iload_n (x := v5) dX4_under_46 rfl rfl ?_
        exact am_iret rfl dX4_under_47 h
      · have h := h.2 c
        refine am_aloadr_n (x := some a0) dX4_under_29 rfl rfl ?_
        refine fx_gr (k := 7) (f_fldC (ref := "PondHouse$Reader") inf_X4 (by decide) q1187 (Or.inl rfl) f_fld0) dX4_under_30 h (fun v21 h => ?_)
        refine am_iconst (v := 4) dX4_under_33 (by decide) ?_
        refine am_aloadr_n (x := some a0) dX4_under_34 rfl rfl ?_
        refine fx_gi (k := 1) (f_fldC (ref := "PondHouse$Reader") inf_X4 (by decide) q1180 (Or.inl rfl) f_fld0) dX4_under_35 h (fun v22 h => ?_)
        refine fx_callVN (Mc := m_X0_refused) (as := [.int 4, .int v22]) (cs := [0]) (r := v21) (f_clsC inf_X0 qs47 f_cls0) bm_X0_refused q1686 q1688 (Nat.le_of_ble_eq_true rfl) dX4_under_38 h (fun b h => mt_X0_refused (fx_k2r h (fun v23 σ24 h => ?_) (fun q σ' h => h.elim)))
        exact fx_throw (cs := [3]) dX4_under_41 h (fun q h => am_xout (by decide +kernel) h)
  · have h := h.2 c
    refine am_iconst (v := (-1)) dX4_under_10 (by decide) ?_
    exact am_iret rfl dX4_under_11 h
theorem W_X4_needs_f {G : am_G} {d : Nat} {a0 : Nat} {a1 : Int32} {σ : am_S} {Q : am_S → Prop} {E : Nat → am_S → Prop} (h : f_o σ (some a0) [4] (fun b => W_X4_takes G d b a1 σ (fun v1 σ2 => ((¬ v1 = 0 → Q σ2) ∧ (v1 = 0 → f_o σ2 (some a0) [4] (fun b => W_X4_bad G d b σ2 (fun v5 σ6 => f_o σ6 v5 [3] (fun q => E q σ6)))))))) : W_X4_needs G (d + 1) a0 a1 σ Q E := by
  unfold W_X4_needs
  refine am_aloadr_n (x := some a0) dX4_needs_0 rfl rfl ?_
  refine am_iload_n (x := a1) dX4_needs_1 rfl rfl ?_
  refine fx_callV (Mc := m_X4_takes) (as := [.int a1]) (cs := [4]) (r := (some a0)) (f_clsC inf_X4 qs54 f_cls0) bm_X4_takes q1729 q1731 (Nat.le_of_ble_eq_true rfl) dX4_needs_2 h (fun b h => mt_X4_takes (fx_k2i h (fun v1 σ2 h => ?_) (fun q σ' h => h.elim)))
  refine am_if_ne (tgt := 13) dX4_needs_5 (by decide) (fun c => ?_) (fun c => ?_)
  · have h := h.1 c
    exact am_vret rfl dX4_needs_13 h
  · have h := h.2 c
    refine am_aloadr_n (x := some a0) dX4_needs_8 rfl rfl ?_
    refine fx_callV (Mc := m_X4_bad) (as := []) (cs := [4]) (r := (some a0)) (f_clsC inf_X4 qs46 f_cls0) bm_X4_bad q1682 q1684 (Nat.le_of_ble_eq_true rfl) dX4_needs_9 h (fun b h => mt_X4_bad (fx_k2r h (fun v5 σ6 h => ?_) (fun q σ' h => h.elim)))
    exact fx_throw (cs := [3]) dX4_needs_12 h (fun q h => am_xout (by decide +kernel) h)
theorem W_X4_takes_f {G : am_G} {d : Nat} {a0 : Nat} {a1 : Int32} {σ : am_S} {Q : Int32 → am_S → Prop} (h : f_o σ (some a0) [4] (fun b => W_X4_isSign G d b a1 σ (fun v1 σ2 => ((¬ v1 = 0 → f_o σ2 (some a0) [4] (fun b => W_X4_next G d b σ2 (fun σ6 => Q 1 σ6))) ∧ (v1 = 0 → Q 0 σ2))))) : W_X4_takes G (d + 1) a0 a1 σ Q := by
  unfold W_X4_takes
  refine am_aloadr_n (x := some a0) dX4_takes_0 rfl rfl ?_
  refine am_iload_n (x := a1) dX4_takes_1 rfl rfl ?_
  refine fx_callV (Mc := m_X4_isSign) (as := [.int a1]) (cs := [4]) (r := (some a0)) (f_clsC inf_X4 qs55 f_cls0) bm_X4_isSign q1733 q1735 (Nat.le_of_ble_eq_true rfl) dX4_takes_2 h (fun b h => mt_X4_isSign (fx_k2i h (fun v1 σ2 h => ?_) (fun q σ' h => h.elim)))
  refine am_if_ne (tgt := 10) dX4_takes_5 (by decide) (fun c => ?_) (fun c => ?_)
  · have h := h.1 c
    refine am_aloadr_n (x := some a0) dX4_takes_10 rfl rfl ?_
    refine fx_callV (Mc := m_X4_next) (as := []) (cs := [4]) (r := (some a0)) (f_clsC inf_X4 qs36 f_cls0) bm_X4_next q1396 q1398 (Nat.le_of_ble_eq_true rfl) dX4_takes_11 h (fun b h => mt_X4_next (fx_k2v h (fun σ6 h => ?_) (fun q σ' h => h.elim)))
    refine am_iconst (v := 1) dX4_takes_14 (by decide) ?_
    exact am_zret rfl rfl dX4_takes_15 h
  · have h := h.2 c
    refine am_iconst (v := 0) dX4_takes_8 (by decide) ?_
    exact am_zret rfl rfl dX4_takes_9 h
theorem W_X4_isSign_f {G : am_G} {d : Nat} {a0 : Nat} {a1 : Int32} {σ : am_S} {Q : Int32 → am_S → Prop} (h : f_gi σ (some a0) [4] 2 (fun v1 => ((¬ v1 = 5 → Q 0 σ) ∧ (v1 = 5 → f_gi σ (some a0) [4] 3 (fun v2 => ((¬ v2 = a1 → Q 0 σ) ∧ (v2 = a1 → Q 1 σ))))))) : W_X4_isSign G d a0 a1 σ Q := by
  unfold W_X4_isSign
  refine am_aloadr_n (x := some a0) dX4_isSign_0 rfl rfl ?_
  refine fx_gi (k := 2) (f_fldC (ref := "PondHouse$Reader") inf_X4 (by decide) q1181 (Or.inl rfl) f_fld0) dX4_isSign_1 h (fun v1 h => ?_)
  refine am_iconst (v := 5) dX4_isSign_4 (by decide) ?_
  refine am_icmp_ne (tgt := 20) dX4_isSign_5 (by decide) (fun c => ?_) (fun c => ?_)
  · have h := h.1 c
    refine am_iconst (v := 0) dX4_isSign_20 (by decide) ?_
    exact am_zret rfl rfl dX4_isSign_21 h
  · have h := h.2 c
    refine am_aloadr_n (x := some a0) dX4_isSign_8 rfl rfl ?_
    refine fx_gi (k := 3) (f_fldC (ref := "PondHouse$Reader") inf_X4 (by decide) q1183 (Or.inl rfl) f_fld0) dX4_isSign_9 h (fun v2 h => ?_)
    refine am_iload_n (x := a1) dX4_isSign_12 rfl rfl ?_
    refine am_icmp_ne (tgt := 20) dX4_isSign_13 (by decide) (fun c => ?_) (fun c => ?_)
    · have h := h.1 c
      refine am_iconst (v := 0) dX4_isSign_20 (by decide) ?_
      exact am_zret rfl rfl dX4_isSign_21 h
    · have h := h.2 c
      refine am_iconst (v := 1) dX4_isSign_16 (by decide) ?_
      refine am_goto (tgt := 21) dX4_isSign_17 (by decide) ?_
      exact am_zret rfl rfl dX4_isSign_21 h
theorem W_X4_isMember_f {G : am_G} {d : Nat} {a0 : Nat} {σ : am_S} {Q : Int32 → am_S → Prop} (h : f_o σ (some a0) [4] (fun b => W_X4_isWord G d b (some (am_sk G 3)) σ (fun v1 σ2 => ((¬ v1 = 0 → Q 1 σ2) ∧ (v1 = 0 → f_o σ2 (some a0) [4] (fun b => W_X4_isWord G d b (some (am_sk G 4)) σ2 (fun v5 σ6 => ((¬ v5 = 0 → Q 1 σ6) ∧ (v5 = 0 → f_o σ6 (some a0) [4] (fun b => W_X4_isWord G d b (some (am_sk G 5)) σ6 (fun v9 σ10 => ((¬ v9 = 0 → Q 1 σ10) ∧ (v9 = 0 → f_o σ10 (some a0) [4] (fun b => W_X4_isWord G d b (some (am_sk G 6)) σ10 (fun v13 σ14 => ((v13 = 0 → Q 0 σ14) ∧ (¬ v13 = 0 → Q 1 σ14))))))))))))))))) : W_X4_isMember G (d + 1) a0 σ Q := by
  unfold W_X4_isMember
  refine am_aloadr_n (x := some a0) dX4_isMember_0 rfl rfl ?_
  refine am_ldcwS (i := 3) rfl q1741 dX4_isMember_1 ?_
  refine fx_callV (Mc := m_X4_isWord) (as := [va_rf (some (am_sk G 3))]) (cs := [4]) (r := (some a0)) (f_clsC inf_X4 qs51 f_cls0) bm_X4_isWord q1710 q1712 (Nat.le_of_ble_eq_true rfl) dX4_isMember_4 h (fun b h => mt_X4_isWord (fx_k2i h (fun v1 σ2 h => ?_) (fun q σ' h => h.elim)))
  refine am_if_ne (tgt := 40) dX4_isMember_7 (by decide) (fun c => ?_) (fun c => ?_)
  · have h := h.1 c
    refine am_iconst (v := 1) dX4_isMember_40 (by decide) ?_
    refine am_goto (tgt := 45) dX4_isMember_41 (by decide) ?_
    exact am_zret rfl rfl dX4_isMember_45 h
  · have h := h.2 c
    refine am_aloadr_n (x := some a0) dX4_isMember_10 rfl rfl ?_
    refine am_ldcwS (i := 4) rfl q1742 dX4_isMember_11 ?_
    refine fx_callV (Mc := m_X4_isWord) (as := [va_rf (some (am_sk G 4))]) (cs := [4]) (r := (some a0)) (f_clsC inf_X4 qs51 f_cls0) bm_X4_isWord q1710 q1712 (Nat.le_of_ble_eq_true rfl) dX4_isMember_14 h (fun b h => mt_X4_isWord (fx_k2i h (fun v5 σ6 h => ?_) (fun q σ' h => h.elim)))
    refine am_if_ne (tgt := 40) dX4_isMember_17 (by decide) (fun c => ?_) (fun c => ?_)
    · have h := h.1 c
      refine am_iconst (v := 1) dX4_isMember_40 (by decide) ?_
      refine am_goto (tgt := 45) dX4_isMember_41 (by decide) ?_
      exact am_zret rfl rfl dX4_isMember_45 h
    · have h := h.2 c
      refine am_aloadr_n (x := some a0) dX4_isMember_20 rfl rfl ?_
      refine am_ldcwS (i := 5) rfl q1743 dX4_isMember_21 ?_
      refine fx_callV (Mc := m_X4_isWord) (as := [va_rf (some (am_sk G 5))]) (cs := [4]) (r := (some a0)) (f_clsC inf_X4 qs51 f_cls0) bm_X4_isWord q1710 q1712 (Nat.le_of_ble_eq_true rfl) dX4_isMember_24 h (fun b h => mt_X4_isWord (fx_k2i h (fun v9 σ10 h => ?_) (fun q σ' h => h.elim)))
      refine am_if_ne (tgt := 40) dX4_isMember_27 (by decide) (fun c => ?_) (fun c => ?_)
      · have h := h.1 c
        refine am_iconst (v := 1) dX4_isMember_40 (by decide) ?_
        refine am_goto (tgt := 45) dX4_isMember_41 (by decide) ?_
        exact am_zret rfl rfl dX4_isMember_45 h
      · have h := h.2 c
        refine am_aloadr_n (x := some a0) dX4_isMember_30 rfl rfl ?_
        refine am_ldcwS (i := 6) rfl q1744 dX4_isMember_31 ?_
        refine fx_callV (Mc := m_X4_isWord) (as := [va_rf (some (am_sk G 6))]) (cs := [4]) (r := (some a0)) (f_clsC inf_X4 qs51 f_cls0) bm_X4_isWord q1710 q1712 (Nat.le_of_ble_eq_true rfl) dX4_isMember_34 h (fun b h => mt_X4_isWord (fx_k2i h (fun v13 σ14 h => ?_) (fun q σ' h => h.elim)))
        refine am_if_eq (tgt := 44) dX4_isMember_37 (by decide) (fun c => ?_) (fun c => ?_)
        · have h := h.1 c
          refine am_iconst (v := 0) dX4_isMember_44 (by decide) ?_
          exact am_zret rfl rfl dX4_isMember_45 h
        · have h := h.2 c
          refine am_iconst (v := 1) dX4_isMember_40 (by decide) ?_
          refine am_goto (tgt := 45) dX4_isMember_41 (by decide) ?_
          exact am_zret rfl rfl dX4_isMember_45 h
theorem W_X4_member_f {G : am_G} {d : Nat} {a0 : Nat} {a1 : Option Nat} {a2 : Option Nat} {σ : am_S} {Q : Option Nat → am_S → Prop} {E : Nat → am_S → Prop} (h : f_o σ (some a0) [4] (fun b => W_X4_isWord G d b (some (am_sk G 4)) σ (fun v1 σ2 => f_o σ2 (some a0) [4] (fun b => W_X4_isWord G d b (some (am_sk G 6)) σ2 (fun v5 σ6 => ((v5 = 0 → f_o σ6 (some a0) [4] (fun b => W_X4_isWord G d b (some (am_sk G 5)) σ6 (fun v9 σ10 => ((v9 = 0 → B_X4_member_37 G (d + 1) a0 a1 a2 v1 0 σ10 Q E) ∧ (¬ v9 = 0 → B_X4_member_37 G (d + 1) a0 a1 a2 v1 1 σ10 Q E))))) ∧ (¬ v5 = 0 → B_X4_member_37 G (d + 1) a0 a1 a2 v1 2 σ6 Q E))))))) : W_X4_member G (d + 1) a0 a1 a2 σ Q E := by
  unfold W_X4_member
  refine am_aloadr_n (x := some a0) dX4_member_0 rfl rfl ?_
  refine am_ldcwS (i := 4) rfl q1742 dX4_member_1 ?_
  refine fx_callV (Mc := m_X4_isWord) (as := [va_rf (some (am_sk G 4))]) (cs := [4]) (r := (some a0)) (f_clsC inf_X4 qs51 f_cls0) bm_X4_isWord q1710 q1712 (Nat.le_of_ble_eq_true rfl) dX4_member_4 h (fun b h => mt_X4_isWord (fx_k2i h (fun v1 σ2 h => ?_) (fun q σ' h => h.elim)))
  refine am_istore_n (L' := [(6, .int v1), (0, va_rf (some a0)), (2, va_rf a1), (4, va_rf a2)]) dX4_member_7 rfl (Nat.le_of_ble_eq_true rfl) rfl ?_
  refine am_aloadr_n (x := some a0) dX4_member_8 rfl rfl ?_
  refine am_ldcwS (i := 6) rfl q1744 dX4_member_9 ?_
  refine fx_callV (Mc := m_X4_isWord) (as := [va_rf (some (am_sk G 6))]) (cs := [4]) (r := (some a0)) (f_clsC inf_X4 qs51 f_cls0) bm_X4_isWord q1710 q1712 (Nat.le_of_ble_eq_true rfl) dX4_member_12 h (fun b h => mt_X4_isWord (fx_k2i h (fun v5 σ6 h => ?_) (fun q σ' h => h.elim)))
  refine am_if_eq (tgt := 22) dX4_member_15 (by decide) (fun c => ?_) (fun c => ?_)
  · have h := h.1 c
    refine am_aloadr_n (x := some a0) dX4_member_22 rfl rfl ?_
    refine am_ldcwS (i := 5) rfl q1743 dX4_member_23 ?_
    refine fx_callV (Mc := m_X4_isWord) (as := [va_rf (some (am_sk G 5))]) (cs := [4]) (r := (some a0)) (f_clsC inf_X4 qs51 f_cls0) bm_X4_isWord q1710 q1712 (Nat.le_of_ble_eq_true rfl) dX4_member_26 h (fun b h => mt_X4_isWord (fx_k2i h (fun v9 σ10 h => ?_) (fun q σ' h => h.elim)))
    refine am_if_eq (tgt := 36) dX4_member_29 (by decide) (fun c => ?_) (fun c => ?_)
    · have h := h.1 c
      refine am_iconst (v := 0) dX4_member_36 (by decide) ?_
      exact am_lss h rfl
    · have h := h.2 c
      refine am_iconst (v := 1) dX4_member_32 (by decide) ?_
      refine am_goto (tgt := 37) dX4_member_33 (by decide) ?_
      exact am_lss h rfl
  · have h := h.2 c
    refine am_iconst (v := 2) dX4_member_18 (by decide) ?_
    refine am_goto (tgt := 37) dX4_member_19 (by decide) ?_
    exact am_lss h rfl
theorem B_X4_member_37_f {G : am_G} {d : Nat} {a0 : Nat} {x1 : Option Nat} {x2 : Option Nat} {x3 : Int32} {s0 : Int32} {σ : am_S} {Q : Option Nat → am_S → Prop} {E : Nat → am_S → Prop} (h : f_o σ (some a0) [4] (fun b => W_X4_next G d b σ (fun σ2 => f_o σ2 (some a0) [4] (fun b => W_X4_name G d b σ2 (fun v5 σ6 => ((x1 = none → B_X4_member_144 G (d + 1) a0 x3 s0 v5 σ6 Q E) ∧ (¬ x1 = none → ((¬ s0 = 2 → f_o σ6 x1 [8] (fun b => W_X8_holds G d b v5 σ6 (fun v9 σ10 => ((¬ v9 = 0 → B_X4_member_102 G (d + 1) a0 x1 x3 s0 v5 1 σ10 Q E) ∧ (v9 = 0 → f_o σ10 (some a0) [4] (fun b => W_X4_isAbove G d b x1 x2 v5 σ10 (fun v13 σ14 => ((v13 = 0 → B_X4_member_102 G (d + 1) a0 x1 x3 s0 v5 0 σ14 Q E) ∧ (¬ v13 = 0 → B_X4_member_102 G (d + 1) a0 x1 x3 s0 v5 1 σ14 Q E))))))))) ∧ (s0 = 2 → f_o σ6 x1 [8] (fun b => W_X8_act G d b v5 σ6 (fun v17 σ18 => ((v17 = (-1) → B_X4_member_102 G (d + 1) a0 x1 x3 s0 v5 0 σ18 Q E) ∧ (¬ v17 = (-1) → B_X4_member_102 G (d + 1) a0 x1 x3 s0 v5 1 σ18 Q E))))))))) E)))) : B_X4_member_37 G (d + 1) a0 x1 x2 x3 s0 σ Q E := by
  unfold B_X4_member_37
  refine am_istore (L' := [(8, .int s0), (0, va_rf (some a0)), (2, va_rf x1), (4, va_rf x2), (6, .int x3)]) dX4_member_37 (Nat.le_of_ble_eq_true rfl) rfl ?_
  refine am_aloadr_n (x := some a0) dX4_member_39 rfl rfl ?_
  refine fx_callV (Mc := m_X4_next) (as := []) (cs := [4]) (r := (some a0)) (f_clsC inf_X4 qs36 f_cls0) bm_X4_next q1396 q1398 (Nat.le_of_ble_eq_true rfl) dX4_member_40 h (fun b h => mt_X4_next (fx_k2v h (fun σ2 h => ?_) (fun q σ' h => h.elim)))
  refine am_aloadr_n (x := some a0) dX4_member_43 rfl rfl ?_
  refine fx_callV (Mc := m_X4_name) (as := []) (cs := [4]) (r := (some a0)) (f_clsC inf_X4 qs45 f_cls0) bm_X4_name q1678 q1680 (Nat.le_of_ble_eq_true rfl) dX4_member_44 h (fun b h => mt_X4_name (fx_k2i h (fun v5 σ6 h => ?_) (fun q σ' h => am_xout (by decide +kernel) h)))
  refine am_istore (L' := [(10, .int v5), (8, .int s0), (0, va_rf (some a0)), (2, va_rf x1), (4, va_rf x2), (6, .int x3)]) dX4_member_47 (Nat.le_of_ble_eq_true rfl) rfl ?_
  refine am_aloadr_n (x := x1) dX4_member_49 rfl rfl ?_
  refine am_ifnullr (tgt := 144) dX4_member_50 (by decide) (fun c => ?_) (fun c => ?_)
  · have h := h.1 c
    exact am_lss h rfl
  · have h := h.2 c
    refine am_iload (x := s0) dX4_member_53 rfl ?_
    refine am_iconst (v := 2) dX4_member_55 (by decide) ?_
    refine am_icmp_ne (tgt := 77) dX4_member_56 (by decide) (fun c => ?_) (fun c => ?_)
    · have h := h.1 c
      refine am_aloadr_n (x := x1) dX4_member_77 rfl rfl ?_
      refine am_iload (x := v5) dX4_member_78 rfl ?_
      refine fx_callV (Mc := m_X8_holds) (as := [.int v5]) (cs := [8]) (r := x1) (f_clsC inf_X8 q784 f_cls0) bm_X8_holds q1750 q783 (Nat.le_of_ble_eq_true rfl) dX4_member_80 h (fun b h => mt_X8_holds (fx_k2i h (fun v9 σ10 h => ?_) (fun q σ' h => h.elim)))
      refine am_if_ne (tgt := 97) dX4_member_83 (by decide) (fun c => ?_) (fun c => ?_)
      · have h := h.1 c
        refine am_iconst (v := 1) dX4_member_97 (by decide) ?_
        refine am_goto (tgt := 102) dX4_member_98 (by decide) ?_
        exact am_lss h rfl
      · have h := h.2 c
        refine am_aloadr_n (x := some a0) dX4_member_86 rfl rfl ?_
        refine am_aloadr_n (x := x1) dX4_member_87 rfl rfl ?_
        refine am_aloadr_n (x := x2) dX4_member_88 rfl rfl ?_
        refine am_iload (x := v5) dX4_member_89 rfl ?_
        refine fx_callV (Mc := m_X4_isAbove) (as := [va_rf x1, va_rf x2, .int v5]) (cs := [4]) (r := (some a0)) (f_clsC inf_X4 qs58 f_cls0) bm_X4_isAbove q1751 q1753 (Nat.le_of_ble_eq_true rfl) dX4_member_91 h (fun b h => mt_X4_isAbove (fx_k2i h (fun v13 σ14 h => ?_) (fun q σ' h => h.elim)))
        refine am_if_eq (tgt := 101) dX4_member_94 (by decide) (fun c => ?_) (fun c => ?_)
        · have h := h.1 c
          refine am_iconst (v := 0) dX4_member_101 (by decide) ?_
          exact am_lss h rfl
        · have h := h.2 c
          refine am_iconst (v := 1) dX4_member_97 (by decide) ?_
          refine am_goto (tgt := 102) dX4_member_98 (by decide) ?_
          exact am_lss h rfl
    · have h := h.2 c
      refine am_aloadr_n (x := x1) dX4_member_59 rfl rfl ?_
      refine am_iload (x := v5) dX4_member_60 rfl ?_
      refine fx_callV (Mc := m_X8_act) (as := [.int v5]) (cs := [8]) (r := x1) (f_clsC inf_X8 q777 f_cls0) bm_X8_act q1749 q776 (Nat.le_of_ble_eq_true rfl) dX4_member_62 h (fun b h => mt_X8_act (fx_k2i h (fun v17 σ18 h => ?_) (fun q σ' h => h.elim)))
      refine am_iconst (v := (-1)) dX4_member_65 (by decide) ?_
      refine am_icmp_eq (tgt := 73) dX4_member_66 (by decide) (fun c => ?_) (fun c => ?_)
      · have h := h.1 c
        refine am_iconst (v := 0) dX4_member_73 (by decide) ?_
        refine am_goto (tgt := 102) dX4_member_74 (by decide) ?_
        exact am_lss h rfl
      · have h := h.2 c
        refine am_iconst (v := 1) dX4_member_69 (by decide) ?_
        refine am_goto (tgt := 102) dX4_member_70 (by decide) ?_
        exact am_lss h rfl
theorem B_X4_member_102_f {G : am_G} {d : Nat} {a0 : Nat} {x1 : Option Nat} {x3 : Int32} {x4 : Int32} {x5 : Int32} {s0 : Int32} {σ : am_S} {Q : Option Nat → am_S → Prop} {E : Nat → am_S → Prop} (h : ((s0 = 0 → f_o σ x1 [8] (fun b => W_X8_isFull G d b x4 σ (fun v1 σ2 => ((v1 = 0 → B_X4_member_144 G (d + 1) a0 x3 x4 x5 σ2 Q E) ∧ (¬ v1 = 0 → f_gr σ2 (some a0) [4] 7 (fun v5 => f_gi σ2 (some a0) [4] 1 (fun v6 => f_o σ2 v5 [0] (fun b => W_X0_refused G d b 5 v6 σ2 (fun v7 σ8 => f_o σ8 v7 [3] (fun q => E q σ8)))))))))) ∧ (¬ s0 = 0 → f_gr σ (some a0) [4] 7 (fun v11 => f_gi σ (some a0) [4] 1 (fun v12 => f_o σ v11 [0] (fun b => W_X0_refused G d b 4 v12 σ (fun v13 σ14 => f_o σ14 v13 [3] (fun q => E q σ14)))))))) : B_X4_member_102 G (d + 1) a0 x1 x3 x4 x5 s0 σ Q E := by
  unfold B_X4_member_102
  refine am_istore (L' := [(12, .int s0), (0, va_rf (some a0)), (2, va_rf x1), (6, .int x3), (8, .int x4), (10, .int x5)]) dX4_member_102 (Nat.le_of_ble_eq_true rfl) rfl ?_
  refine am_iload (x := s0) dX4_member_104 rfl ?_
  refine am_if_eq (tgt := 122) dX4_member_106 (by decide) (fun c => ?_) (fun c => ?_)
  · have h := h.1 c
    refine am_aloadr_n (x := x1) dX4_member_122 rfl rfl ?_
    refine am_iload (x := x4) dX4_member_123 rfl ?_
    refine fx_callV (Mc := m_X8_isFull) (as := [.int x4]) (cs := [8]) (r := x1) (f_clsC inf_X8 q792 f_cls0) bm_X8_isFull q1755 q791 (Nat.le_of_ble_eq_true rfl) dX4_member_125 h (fun b h => mt_X8_isFull (fx_k2i h (fun v1 σ2 h => ?_) (fun q σ' h => h.elim)))
    refine am_if_eq (tgt := 144) dX4_member_128 (by decide) (fun c => ?_) (fun c => ?_)
    · have h := h.1 c
      exact am_lss h rfl
    · have h := h.2 c
      refine am_aloadr_n (x := some a0) dX4_member_131 rfl rfl ?_
      refine fx_gr (k := 7) (f_fldC (ref := "PondHouse$Reader") inf_X4 (by decide) q1187 (Or.inl rfl) f_fld0) dX4_member_132 h (fun v5 h => ?_)
      refine am_iconst (v := 5) dX4_member_135 (by decide) ?_
      refine am_aloadr_n (x := some a0) dX4_member_136 rfl rfl ?_
      refine fx_gi (k := 1) (f_fldC (ref := "PondHouse$Reader") inf_X4 (by decide) q1180 (Or.inl rfl) f_fld0) dX4_member_137 h (fun v6 h => ?_)
      refine fx_callVN (Mc := m_X0_refused) (as := [.int 5, .int v6]) (cs := [0]) (r := v5) (f_clsC inf_X0 qs47 f_cls0) bm_X0_refused q1686 q1688 (Nat.le_of_ble_eq_true rfl) dX4_member_140 h (fun b h => mt_X0_refused (fx_k2r h (fun v7 σ8 h => ?_) (fun q σ' h => h.elim)))
      exact fx_throw (cs := [3]) dX4_member_143 h (fun q h => am_xout (by decide +kernel) h)
  · have h := h.2 c
    refine am_aloadr_n (x := some a0) dX4_member_109 rfl rfl ?_
    refine fx_gr (k := 7) (f_fldC (ref := "PondHouse$Reader") inf_X4 (by decide) q1187 (Or.inl rfl) f_fld0) dX4_member_110 h (fun v11 h => ?_)
    refine am_iconst (v := 4) dX4_member_113 (by decide) ?_
    refine am_aloadr_n (x := some a0) dX4_member_114 rfl rfl ?_
    refine fx_gi (k := 1) (f_fldC (ref := "PondHouse$Reader") inf_X4 (by decide) q1180 (Or.inl rfl) f_fld0) dX4_member_115 h (fun v12 h => ?_)
    refine fx_callVN (Mc := m_X0_refused) (as := [.int 4, .int v12]) (cs := [0]) (r := v11) (f_clsC inf_X0 qs47 f_cls0) bm_X0_refused q1686 q1688 (Nat.le_of_ble_eq_true rfl) dX4_member_118 h (fun b h => mt_X0_refused (fx_k2r h (fun v13 σ14 h => ?_) (fun q σ' h => h.elim)))
    exact fx_throw (cs := [3]) dX4_member_121 h (fun q h => am_xout (by decide +kernel) h)
theorem B_X4_member_144_f {G : am_G} {d : Nat} {a0 : Nat} {x3 : Int32} {x4 : Int32} {x5 : Int32} {σ : am_S} {Q : Option Nat → am_S → Prop} {E : Nat → am_S → Prop} (h : f_o σ (some a0) [4] (fun b => W_X4_next G d b σ (fun σ2 => ((¬ x4 = 2 → ((¬ x3 = 0 → B_X4_member_196 G (d + 1) a0 x4 x5 (-1) σ2 Q E) ∧ (x3 = 0 → f_o σ2 (some a0) [4] (fun b => W_X4_needs G d b 61 σ2 (fun σ6 => f_o σ6 (some a0) [4] (fun b => W_X4_signed G d b σ6 (fun v9 σ10 => B_X4_member_196 G (d + 1) a0 x4 x5 v9 σ10 Q E) E)) E)))) ∧ (x4 = 2 → f_p σ2 (some a0) [4] 5 (.int 0) (fun σ13 => f_new G σ13 9 4 tyX9 (fun n14 σ15 => f_o σ15 (some a0) [4] (fun b => W_X4_block G d b 1 σ15 (fun v16 σ17 => W_X9_init G d n14 x4 x5 0 v16 σ17 (fun σ21 => Q (some n14) σ21)) E)))))))) : B_X4_member_144 G (d + 1) a0 x3 x4 x5 σ Q E := by
  unfold B_X4_member_144
  refine am_aloadr_n (x := some a0) dX4_member_144 rfl rfl ?_
  refine fx_callV (Mc := m_X4_next) (as := []) (cs := [4]) (r := (some a0)) (f_clsC inf_X4 qs36 f_cls0) bm_X4_next q1396 q1398 (Nat.le_of_ble_eq_true rfl) dX4_member_145 h (fun b h => mt_X4_next (fx_k2v h (fun σ2 h => ?_) (fun q σ' h => h.elim)))
  refine am_iload (x := x4) dX4_member_148 rfl ?_
  refine am_iconst (v := 2) dX4_member_150 (by decide) ?_
  refine am_icmp_ne (tgt := 177) dX4_member_151 (by decide) (fun c => ?_) (fun c => ?_)
  · have h := h.1 c
    refine am_iconst (v := (-1)) dX4_member_177 (by decide) ?_
    refine am_istore (L' := [(12, .int (-1)), (0, va_rf (some a0)), (6, .int x3), (8, .int x4), (10, .int x5)]) dX4_member_178 (Nat.le_of_ble_eq_true rfl) rfl ?_
    refine am_iload_n (x := x3) dX4_member_180 rfl rfl ?_
    refine am_if_ne (tgt := 196) dX4_member_181 (by decide) (fun c => ?_) (fun c => ?_)
    · have h := h.1 c
      exact am_lss h rfl
    · have h := h.2 c
      refine am_aloadr_n (x := some a0) dX4_member_184 rfl rfl ?_
      refine am_bipush (v := 61) dX4_member_185 (by decide) ?_
      refine fx_callV (Mc := m_X4_needs) (as := [.int 61]) (cs := [4]) (r := (some a0)) (f_clsC inf_X4 qs53 f_cls0) bm_X4_needs q1725 q1727 (Nat.le_of_ble_eq_true rfl) dX4_member_187 h (fun b h => mt_X4_needs (fx_k2v h (fun σ6 h => ?_) (fun q σ' h => am_xout (by decide +kernel) h)))
      refine am_aloadr_n (x := some a0) dX4_member_190 rfl rfl ?_
      refine fx_callV (Mc := m_X4_signed) (as := []) (cs := [4]) (r := (some a0)) (f_clsC inf_X4 qs69 f_cls0) bm_X4_signed q2043 q2045 (Nat.le_of_ble_eq_true rfl) dX4_member_191 h (fun b h => mt_X4_signed (fx_k2i h (fun v9 σ10 h => ?_) (fun q σ' h => am_xout (by decide +kernel) h)))
      refine am_istore (L' := [(12, .int v9), (0, va_rf (some a0)), (6, .int x3), (8, .int x4), (10, .int x5)]) dX4_member_194 (Nat.le_of_ble_eq_true rfl) rfl ?_
      exact am_lss h rfl
  · have h := h.2 c
    refine am_aloadr_n (x := some a0) dX4_member_154 rfl rfl ?_
    refine am_iconst (v := 0) dX4_member_155 (by decide) ?_
    refine fx_p (k := 5) (v := .int 0) (f_putC inf_X4 (by decide) rfl rfl q1185 (Or.inl rfl) f_put0) dX4_member_156 h (fun σ13 h => ?_)
    refine fx_new inf_X9 q1756 q1757 q187 dX4_member_159 h (fun n14 σ15 h => ?_)
    refine am_dup dX4_member_162 (am_rf_cat _) ?_
    refine am_iload (x := x4) dX4_member_163 rfl ?_
    refine am_iload (x := x5) dX4_member_165 rfl ?_
    refine am_iconst (v := 0) dX4_member_167 (by decide) ?_
    refine am_aloadr_n (x := some a0) dX4_member_168 rfl rfl ?_
    refine am_iconst (v := 1) dX4_member_169 (by decide) ?_
    refine fx_callV (Mc := m_X4_block) (as := [.int 1]) (cs := [4]) (r := (some a0)) (f_clsC inf_X4 qs59 f_cls0) bm_X4_block q1758 q1760 (Nat.le_of_ble_eq_true rfl) dX4_member_170 h (fun b h => mt_X4_block (fx_k2r h (fun v16 σ17 h => ?_) (fun q σ' h => am_xout (by decide +kernel) h)))
    refine fx_callI (Mc := m_X9_init) (as := [.int x4, .int x5, .int 0, va_rf v16]) bm_X9_init q2020 q2021 rfl rfl (Nat.le_of_ble_eq_true rfl) dX4_member_173 (mt_X9_init (fx_k2v h (fun σ21 h => ?_) (fun q σ' h => h.elim)))
    exact fx_aret rfl rfl dX4_member_176 h
theorem B_X4_member_196_f {G : am_G} {d : Nat} {a0 : Nat} {x4 : Int32} {x5 : Int32} {x6 : Int32} {σ : am_S} {Q : Option Nat → am_S → Prop} {E : Nat → am_S → Prop} (h : f_o σ (some a0) [4] (fun b => W_X4_needs G d b 59 σ (fun σ2 => f_new G σ2 9 4 tyX9 (fun n5 σ6 => W_X9_init G d n5 x4 x5 x6 none σ6 (fun σ8 => Q (some n5) σ8))) E)) : B_X4_member_196 G (d + 1) a0 x4 x5 x6 σ Q E := by
  unfold B_X4_member_196
  refine am_aloadr_n (x := some a0) dX4_member_196 rfl rfl ?_
  refine am_bipush (v := 59) dX4_member_197 (by decide) ?_
  refine fx_callV (Mc := m_X4_needs) (as := [.int 59]) (cs := [4]) (r := (some a0)) (f_clsC inf_X4 qs53 f_cls0) bm_X4_needs q1725 q1727 (Nat.le_of_ble_eq_true rfl) dX4_member_199 h (fun b h => mt_X4_needs (fx_k2v h (fun σ2 h => ?_) (fun q σ' h => am_xout (by decide +kernel) h)))
  refine fx_new inf_X9 q1756 q1757 q187 dX4_member_202 h (fun n5 σ6 h => ?_)
  refine am_dup dX4_member_205 (am_rf_cat _) ?_
  refine am_iload (x := x4) dX4_member_206 rfl ?_
  refine am_iload (x := x5) dX4_member_208 rfl ?_
  refine am_iload (x := x6) dX4_member_210 rfl ?_
  refine am_null dX4_member_212 ?_
  refine fx_callI (Mc := m_X9_init) (as := [.int x4, .int x5, .int x6, va_rf none]) bm_X9_init q2020 q2021 rfl rfl (Nat.le_of_ble_eq_true rfl) dX4_member_213 (mt_X9_init (fx_k2v h (fun σ8 h => ?_) (fun q σ' h => h.elim)))
  exact fx_aret rfl rfl dX4_member_216 h
theorem W_X4_isAbove_f {G : am_G} {d : Nat} {a0 : Nat} {a1 : Option Nat} {a2 : Option Nat} {a3 : Int32} {σ : am_S} {Q : Int32 → am_S → Prop} (h : f_gi σ a1 [8] 1 (fun v1 => B_X4_isAbove_6 G (d + 1) a0 a2 a3 v1 σ Q)) : W_X4_isAbove G (d + 1) a0 a1 a2 a3 σ Q := by
  unfold W_X4_isAbove
  refine am_aloadr_n (x := a1) dX4_isAbove_0 rfl rfl ?_
  refine fx_gi (k := 1) (f_fldC (ref := "PondHouse$Draft") inf_X8 (by decide) q568 (Or.inl rfl) f_fld0) dX4_isAbove_1 h (fun v1 h => ?_)
  refine am_istore (L' := [(8, .int v1), (0, va_rf (some a0)), (2, va_rf a1), (4, va_rf a2), (6, .int a3)]) dX4_isAbove_4 (Nat.le_of_ble_eq_true rfl) rfl ?_
  exact am_lss h rfl
theorem B_X4_isAbove_6_f {G : am_G} {d : Nat} {a0 : Nat} {x2 : Option Nat} {x3 : Int32} {x4 : Int32} {σ : am_S} {Q : Int32 → am_S → Prop} (h : ((x4 = (-1) → Q 0 σ) ∧ (¬ x4 = (-1) → W_X0_draft G d x2 x4 σ (fun v1 σ2 => f_o σ2 v1 [8] (fun b => W_X8_holds G d b x3 σ2 (fun v5 σ6 => ((v5 = 0 → f_gi σ6 v1 [8] 1 (fun v9 => B_X4_isAbove_6 G (d + 1) a0 x2 x3 v9 σ6 Q)) ∧ (¬ v5 = 0 → Q 1 σ6)))))))) : B_X4_isAbove_6 G (d + 1) a0 x2 x3 x4 σ Q := by
  unfold B_X4_isAbove_6
  refine am_iload (x := x4) dX4_isAbove_6 rfl ?_
  refine am_iconst (v := (-1)) dX4_isAbove_8 (by decide) ?_
  refine am_icmp_eq (tgt := 41) dX4_isAbove_9 (by decide) (fun c => ?_) (fun c => ?_)
  · have h := h.1 c
    refine am_iconst (v := 0) dX4_isAbove_41 (by decide) ?_
    exact am_zret rfl rfl dX4_isAbove_42 h
  · have h := h.2 c
    refine am_aloadr_n (x := x2) dX4_isAbove_12 rfl rfl ?_
    refine am_iload (x := x4) dX4_isAbove_13 rfl ?_
    refine fx_callSN (Mc := m_X0_draft) (as := [va_rf x2, .int x4]) bm_X0_draft q1715 q749 (Nat.le_of_ble_eq_true rfl) dX4_isAbove_15 (mt_X0_draft (fx_k2r h (fun v1 σ2 h => ?_) (fun q σ' h => h.elim)))
    refine am_astore (x := v1) (L' := [(10, va_rf v1), (4, va_rf x2), (6, .int x3), (8, .int x4)]) dX4_isAbove_18 (Nat.le_of_ble_eq_true rfl) rfl ?_
    refine am_aloadr (x := v1) dX4_isAbove_20 rfl ?_
    refine am_iload_n (x := x3) dX4_isAbove_22 rfl rfl ?_
    refine fx_callV (Mc := m_X8_holds) (as := [.int x3]) (cs := [8]) (r := v1) (f_clsC inf_X8 q784 f_cls0) bm_X8_holds q1750 q783 (Nat.le_of_ble_eq_true rfl) dX4_isAbove_23 h (fun b h => mt_X8_holds (fx_k2i h (fun v5 σ6 h => ?_) (fun q σ' h => h.elim)))
    refine am_if_eq (tgt := 31) dX4_isAbove_26 (by decide) (fun c => ?_) (fun c => ?_)
    · have h := h.1 c
      refine am_aloadr (x := v1) dX4_isAbove_31 rfl ?_
      refine fx_gi (k := 1) (f_fldC (ref := "PondHouse$Draft") inf_X8 (by decide) q568 (Or.inl rfl) f_fld0) dX4_isAbove_33 h (fun v9 h => ?_)
      refine am_istore (L' := [(8, .int v9), (10, va_rf v1), (4, va_rf x2), (6, .int x3)]) dX4_isAbove_36 (Nat.le_of_ble_eq_true rfl) rfl ?_
      refine am_goto (tgt := 6) dX4_isAbove_38 (by decide) ?_
      exact am_lss h rfl
    · have h := h.2 c
      refine am_iconst (v := 1) dX4_isAbove_29 (by decide) ?_
      exact am_zret rfl rfl dX4_isAbove_30 h
theorem W_X4_block_f {G : am_G} {d : Nat} {a0 : Nat} {a1 : Int32} {σ : am_S} {Q : Option Nat → am_S → Prop} {E : Nat → am_S → Prop} (h : f_o σ (some a0) [4] (fun b => W_X4_needs G d b 123 σ (fun σ2 => f_new G σ2 10 3 tyX10 (fun n5 σ6 => f_gr σ6 (some a0) [4] 7 (fun v7 => W_X10_init G d n5 v7 σ6 (fun σ9 => B_X4_block_18 G (d + 1) a0 a1 (some n5) σ9 Q E)))) E)) : W_X4_block G (d + 1) a0 a1 σ Q E := by
  unfold W_X4_block
  refine am_aloadr_n (x := some a0) dX4_block_0 rfl rfl ?_
  refine am_bipush (v := 123) dX4_block_1 (by decide) ?_
  refine fx_callV (Mc := m_X4_needs) (as := [.int 123]) (cs := [4]) (r := (some a0)) (f_clsC inf_X4 qs53 f_cls0) bm_X4_needs q1725 q1727 (Nat.le_of_ble_eq_true rfl) dX4_block_3 h (fun b h => mt_X4_needs (fx_k2v h (fun σ2 h => ?_) (fun q σ' h => am_xout (by decide +kernel) h)))
  refine fx_new inf_X10 q1762 q1763 q188 dX4_block_6 h (fun n5 σ6 h => ?_)
  refine am_dup dX4_block_9 (am_rf_cat _) ?_
  refine am_aloadr_n (x := some a0) dX4_block_10 rfl rfl ?_
  refine fx_gr (k := 7) (f_fldC (ref := "PondHouse$Reader") inf_X4 (by decide) q1187 (Or.inl rfl) f_fld0) dX4_block_11 h (fun v7 h => ?_)
  refine fx_callIN (Mc := m_X10_init) (as := [va_rf v7]) bm_X10_init q1764 q1765 rfl rfl (Nat.le_of_ble_eq_true rfl) dX4_block_14 (mt_X10_init (fx_k2v h (fun σ9 h => ?_) (fun q σ' h => h.elim)))
  refine am_astore_n (x := (some n5)) (L' := [(4, va_rf (some n5)), (0, va_rf (some a0)), (2, .int a1)]) dX4_block_17 rfl (Nat.le_of_ble_eq_true rfl) rfl ?_
  exact am_lss h rfl
theorem B_X4_block_18_f {G : am_G} {d : Nat} {a0 : Nat} {x1 : Int32} {x2 : Option Nat} {σ : am_S} {Q : Option Nat → am_S → Prop} {E : Nat → am_S → Prop} (h : f_o σ (some a0) [4] (fun b => W_X4_isSign G d b 125 σ (fun v1 σ2 => ((¬ v1 = 0 → f_o σ2 (some a0) [4] (fun b => W_X4_next G d b σ2 (fun σ6 => Q x2 σ6))) ∧ (v1 = 0 → f_o σ2 (some a0) [4] (fun b => W_X4_statement G d b x1 σ2 (fun v9 σ10 => f_o σ10 x2 [10] (fun b => W_X10_add G d b v9 σ10 (fun σ14 => B_X4_block_18 G (d + 1) a0 x1 x2 σ14 Q E))) E)))))) : B_X4_block_18 G (d + 1) a0 x1 x2 σ Q E := by
  unfold B_X4_block_18
  refine am_aloadr_n (x := some a0) dX4_block_18 rfl rfl ?_
  refine am_bipush (v := 125) dX4_block_19 (by decide) ?_
  refine fx_callV (Mc := m_X4_isSign) (as := [.int 125]) (cs := [4]) (r := (some a0)) (f_clsC inf_X4 qs55 f_cls0) bm_X4_isSign q1733 q1735 (Nat.le_of_ble_eq_true rfl) dX4_block_21 h (fun b h => mt_X4_isSign (fx_k2i h (fun v1 σ2 h => ?_) (fun q σ' h => h.elim)))
  refine am_if_ne (tgt := 39) dX4_block_24 (by decide) (fun c => ?_) (fun c => ?_)
  · have h := h.1 c
    refine am_aloadr_n (x := some a0) dX4_block_39 rfl rfl ?_
    refine fx_callV (Mc := m_X4_next) (as := []) (cs := [4]) (r := (some a0)) (f_clsC inf_X4 qs36 f_cls0) bm_X4_next q1396 q1398 (Nat.le_of_ble_eq_true rfl) dX4_block_40 h (fun b h => mt_X4_next (fx_k2v h (fun σ6 h => ?_) (fun q σ' h => h.elim)))
    refine am_aloadr_n (x := x2) dX4_block_43 rfl rfl ?_
    exact fx_aret rfl rfl dX4_block_44 h
  · have h := h.2 c
    refine am_aloadr_n (x := x2) dX4_block_27 rfl rfl ?_
    refine am_aloadr_n (x := some a0) dX4_block_28 rfl rfl ?_
    refine am_iload_n (x := x1) dX4_block_29 rfl rfl ?_
    refine fx_callV (Mc := m_X4_statement) (as := [.int x1]) (cs := [4]) (r := (some a0)) (f_clsC inf_X4 qs60 f_cls0) bm_X4_statement q1780 q1782 (Nat.le_of_ble_eq_true rfl) dX4_block_30 h (fun b h => mt_X4_statement (fx_k2r h (fun v9 σ10 h => ?_) (fun q σ' h => am_xout (by decide +kernel) h)))
    refine fx_callV (Mc := m_X10_add) (as := [va_rf v9]) (cs := [10]) (r := x2) (f_clsC inf_X10 q2017 f_cls0) bm_X10_add q2015 q2016 (Nat.le_of_ble_eq_true rfl) dX4_block_33 h (fun b h => mt_X10_add (fx_k2v h (fun σ14 h => ?_) (fun q σ' h => h.elim)))
    refine am_goto (tgt := 18) dX4_block_36 (by decide) ?_
    exact am_lss h rfl
theorem W_X4_statement_f {G : am_G} {d : Nat} {a0 : Nat} {a1 : Int32} {σ : am_S} {Q : Option Nat → am_S → Prop} {E : Nat → am_S → Prop} (h : f_o σ (some a0) [4] (fun b => W_X4_isStatement G d b σ (fun v1 σ2 => ((¬ v1 = 0 → f_o σ2 (some a0) [4] (fun b => W_X4_isWord G d b (some (am_sk G 12)) σ2 (fun v5 σ6 => ((v5 = 0 → B_X4_statement_38 G (d + 1) a0 σ6 Q E) ∧ (¬ v5 = 0 → ((¬ a1 = 0 → B_X4_statement_38 G (d + 1) a0 σ6 Q E) ∧ (a1 = 0 → f_gr σ6 (some a0) [4] 7 (fun v9 => f_gi σ6 (some a0) [4] 1 (fun v10 => f_o σ6 v9 [0] (fun b => W_X0_refused G d b 2 v10 σ6 (fun v11 σ12 => f_o σ12 v11 [3] (fun q => E q σ12)))))))))))) ∧ (v1 = 0 → f_o σ2 (some a0) [4] (fun b => W_X4_bad G d b σ2 (fun v15 σ16 => f_o σ16 v15 [3] (fun q => E q σ16)))))))) : W_X4_statement G (d + 1) a0 a1 σ Q E := by
  unfold W_X4_statement
  refine am_aloadr_n (x := some a0) dX4_statement_0 rfl rfl ?_
  refine fx_callV (Mc := m_X4_isStatement) (as := []) (cs := [4]) (r := (some a0)) (f_clsC inf_X4 qs61 f_cls0) bm_X4_isStatement q1784 q1786 (Nat.le_of_ble_eq_true rfl) dX4_statement_1 h (fun b h => mt_X4_isStatement (fx_k2i h (fun v1 σ2 h => ?_) (fun q σ' h => h.elim)))
  refine am_if_ne (tgt := 12) dX4_statement_4 (by decide) (fun c => ?_) (fun c => ?_)
  · have h := h.1 c
    refine am_aloadr_n (x := some a0) dX4_statement_12 rfl rfl ?_
    refine am_ldcS (i := 12) rfl q1793 dX4_statement_13 ?_
    refine fx_callV (Mc := m_X4_isWord) (as := [va_rf (some (am_sk G 12))]) (cs := [4]) (r := (some a0)) (f_clsC inf_X4 qs51 f_cls0) bm_X4_isWord q1710 q1712 (Nat.le_of_ble_eq_true rfl) dX4_statement_15 h (fun b h => mt_X4_isWord (fx_k2i h (fun v5 σ6 h => ?_) (fun q σ' h => h.elim)))
    refine am_if_eq (tgt := 38) dX4_statement_18 (by decide) (fun c => ?_) (fun c => ?_)
    · have h := h.1 c
      exact am_lss h rfl
    · have h := h.2 c
      refine am_iload_n (x := a1) dX4_statement_21 rfl rfl ?_
      refine am_if_ne (tgt := 38) dX4_statement_22 (by decide) (fun c => ?_) (fun c => ?_)
      · have h := h.1 c
        exact am_lss h rfl
      · have h := h.2 c
        refine am_aloadr_n (x := some a0) dX4_statement_25 rfl rfl ?_
        refine fx_gr (k := 7) (f_fldC (ref := "PondHouse$Reader") inf_X4 (by decide) q1187 (Or.inl rfl) f_fld0) dX4_statement_26 h (fun v9 h => ?_)
        refine am_iconst (v := 2) dX4_statement_29 (by decide) ?_
        refine am_aloadr_n (x := some a0) dX4_statement_30 rfl rfl ?_
        refine fx_gi (k := 1) (f_fldC (ref := "PondHouse$Reader") inf_X4 (by decide) q1180 (Or.inl rfl) f_fld0) dX4_statement_31 h (fun v10 h => ?_)
        refine fx_callVN (Mc := m_X0_refused) (as := [.int 2, .int v10]) (cs := [0]) (r := v9) (f_clsC inf_X0 qs47 f_cls0) bm_X0_refused q1686 q1688 (Nat.le_of_ble_eq_true rfl) dX4_statement_34 h (fun b h => mt_X0_refused (fx_k2r h (fun v11 σ12 h => ?_) (fun q σ' h => h.elim)))
        exact fx_throw (cs := [3]) dX4_statement_37 h (fun q h => am_xout (by decide +kernel) h)
  · have h := h.2 c
    refine am_aloadr_n (x := some a0) dX4_statement_7 rfl rfl ?_
    refine fx_callV (Mc := m_X4_bad) (as := []) (cs := [4]) (r := (some a0)) (f_clsC inf_X4 qs46 f_cls0) bm_X4_bad q1682 q1684 (Nat.le_of_ble_eq_true rfl) dX4_statement_8 h (fun b h => mt_X4_bad (fx_k2r h (fun v15 σ16 h => ?_) (fun q σ' h => h.elim)))
    exact fx_throw (cs := [3]) dX4_statement_11 h (fun q h => am_xout (by decide +kernel) h)
theorem B_X4_statement_38_f {G : am_G} {d : Nat} {a0 : Nat} {σ : am_S} {Q : Option Nat → am_S → Prop} {E : Nat → am_S → Prop} (h : f_gi σ (some a0) [4] 5 (fun v1 => ((¬ v1 = 60 → f_gi σ (some a0) [4] 5 (fun v2 => f_p σ (some a0) [4] 5 (.int (v2 + 1)) (fun σ3 => f_o σ3 (some a0) [4] (fun b => W_X4_isWord G d b (some (am_sk G 13)) σ3 (fun v4 σ5 => ((v4 = 0 → f_o σ5 (some a0) [4] (fun b => W_X4_plain G d b σ5 (fun v8 σ9 => f_o σ9 (some a0) [4] (fun b => W_X4_needs G d b 59 σ9 (fun σ13 => Q v8 σ13) E)) E)) ∧ (¬ v4 = 0 → f_o σ5 (some a0) [4] (fun b => W_X4_chooses G d b σ5 (fun v16 σ17 => Q v16 σ17) E)))))))) ∧ (v1 = 60 → f_gr σ (some a0) [4] 7 (fun v20 => f_gi σ (some a0) [4] 1 (fun v21 => f_o σ v20 [0] (fun b => W_X0_refused G d b 3 v21 σ (fun v22 σ23 => f_o σ23 v22 [3] (fun q => E q σ23))))))))) : B_X4_statement_38 G (d + 1) a0 σ Q E := by
  unfold B_X4_statement_38
  refine am_aloadr_n (x := some a0) dX4_statement_38 rfl rfl ?_
  refine fx_gi (k := 5) (f_fldC (ref := "PondHouse$Reader") inf_X4 (by decide) q1185 (Or.inl rfl) f_fld0) dX4_statement_39 h (fun v1 h => ?_)
  refine am_bipush (v := 60) dX4_statement_42 (by decide) ?_
  refine am_icmp_ne (tgt := 60) dX4_statement_44 (by decide) (fun c => ?_) (fun c => ?_)
  · have h := h.1 c
    refine am_aloadr_n (x := some a0) dX4_statement_60 rfl rfl ?_
    refine am_dup dX4_statement_61 (am_rf_cat _) ?_
    refine fx_gi (k := 5) (f_fldC (ref := "PondHouse$Reader") inf_X4 (by decide) q1185 (Or.inl rfl) f_fld0) dX4_statement_62 h (fun v2 h => ?_)
    refine am_iconst (v := 1) dX4_statement_65 (by decide) ?_
    refine am_iadd dX4_statement_66 ?_
    refine fx_p (k := 5) (v := .int (v2 + 1)) (f_putC inf_X4 (by decide) rfl rfl q1185 (Or.inl rfl) f_put0) dX4_statement_67 h (fun σ3 h => ?_)
    refine am_aloadr_n (x := some a0) dX4_statement_70 rfl rfl ?_
    refine am_ldcS (i := 13) rfl q1794 dX4_statement_71 ?_
    refine fx_callV (Mc := m_X4_isWord) (as := [va_rf (some (am_sk G 13))]) (cs := [4]) (r := (some a0)) (f_clsC inf_X4 qs51 f_cls0) bm_X4_isWord q1710 q1712 (Nat.le_of_ble_eq_true rfl) dX4_statement_73 h (fun b h => mt_X4_isWord (fx_k2i h (fun v4 σ5 h => ?_) (fun q σ' h => h.elim)))
    refine am_if_eq (tgt := 84) dX4_statement_76 (by decide) (fun c => ?_) (fun c => ?_)
    · have h := h.1 c
      refine am_aloadr_n (x := some a0) dX4_statement_84 rfl rfl ?_
      refine fx_callV (Mc := m_X4_plain) (as := []) (cs := [4]) (r := (some a0)) (f_clsC inf_X4 qs68 f_cls0) bm_X4_plain q1949 q1951 (Nat.le_of_ble_eq_true rfl) dX4_statement_85 h (fun b h => mt_X4_plain (fx_k2r h (fun v8 σ9 h => ?_) (fun q σ' h => am_xout (by decide +kernel) h)))
      refine am_astore_n (x := v8) (L' := [(4, va_rf v8), (0, va_rf (some a0))]) dX4_statement_88 rfl (Nat.le_of_ble_eq_true rfl) rfl ?_
      refine am_aloadr_n (x := some a0) dX4_statement_89 rfl rfl ?_
      refine am_bipush (v := 59) dX4_statement_90 (by decide) ?_
      refine fx_callV (Mc := m_X4_needs) (as := [.int 59]) (cs := [4]) (r := (some a0)) (f_clsC inf_X4 qs53 f_cls0) bm_X4_needs q1725 q1727 (Nat.le_of_ble_eq_true rfl) dX4_statement_92 h (fun b h => mt_X4_needs (fx_k2v h (fun σ13 h => ?_) (fun q σ' h => am_xout (by decide +kernel) h)))
      refine am_aloadr_n (x := v8) dX4_statement_95 rfl rfl ?_
      exact fx_aret rfl rfl dX4_statement_96 h
    · have h := h.2 c
      refine am_aloadr_n (x := some a0) dX4_statement_79 rfl rfl ?_
      refine fx_callV (Mc := m_X4_chooses) (as := []) (cs := [4]) (r := (some a0)) (f_clsC inf_X4 qs62 f_cls0) bm_X4_chooses q1795 q1797 (Nat.le_of_ble_eq_true rfl) dX4_statement_80 h (fun b h => mt_X4_chooses (fx_k2r h (fun v16 σ17 h => ?_) (fun q σ' h => am_xout (by decide +kernel) h)))
      exact fx_aret rfl rfl dX4_statement_83 h
  · have h := h.2 c
    refine am_aloadr_n (x := some a0) dX4_statement_47 rfl rfl ?_
    refine fx_gr (k := 7) (f_fldC (ref := "PondHouse$Reader") inf_X4 (by decide) q1187 (Or.inl rfl) f_fld0) dX4_statement_48 h (fun v20 h => ?_)
    refine am_iconst (v := 3) dX4_statement_51 (by decide) ?_
    refine am_aloadr_n (x := some a0) dX4_statement_52 rfl rfl ?_
    refine fx_gi (k := 1) (f_fldC (ref := "PondHouse$Reader") inf_X4 (by decide) q1180 (Or.inl rfl) f_fld0) dX4_statement_53 h (fun v21 h => ?_)
    refine fx_callVN (Mc := m_X0_refused) (as := [.int 3, .int v21]) (cs := [0]) (r := v20) (f_clsC inf_X0 qs47 f_cls0) bm_X0_refused q1686 q1688 (Nat.le_of_ble_eq_true rfl) dX4_statement_56 h (fun b h => mt_X0_refused (fx_k2r h (fun v22 σ23 h => ?_) (fun q σ' h => h.elim)))
    exact fx_throw (cs := [3]) dX4_statement_59 h (fun q h => am_xout (by decide +kernel) h)
theorem W_X4_isStatement_f {G : am_G} {d : Nat} {a0 : Nat} {σ : am_S} {Q : Int32 → am_S → Prop} (h : f_gi σ (some a0) [4] 2 (fun v1 => ((v1 = 2 → B_X4_isStatement_71 G (d + 1) a0 σ Q) ∧ (¬ v1 = 2 → f_o σ (some a0) [4] (fun b => W_X4_isWord G d b (some (am_sk G 7)) σ (fun v2 σ3 => ((¬ v2 = 0 → B_X4_isStatement_71 G (d + 1) a0 σ3 Q) ∧ (v2 = 0 → f_o σ3 (some a0) [4] (fun b => W_X4_isWord G d b (some (am_sk G 8)) σ3 (fun v6 σ7 => ((¬ v6 = 0 → B_X4_isStatement_71 G (d + 1) a0 σ7 Q) ∧ (v6 = 0 → f_o σ7 (some a0) [4] (fun b => W_X4_isWord G d b (some (am_sk G 9)) σ7 (fun v10 σ11 => ((¬ v10 = 0 → B_X4_isStatement_71 G (d + 1) a0 σ11 Q) ∧ (v10 = 0 → f_o σ11 (some a0) [4] (fun b => W_X4_isWord G d b (some (am_sk G 10)) σ11 (fun v14 σ15 => ((¬ v14 = 0 → B_X4_isStatement_71 G (d + 1) a0 σ15 Q) ∧ (v14 = 0 → f_o σ15 (some a0) [4] (fun b => W_X4_isWord G d b (some (am_sk G 11)) σ15 (fun v18 σ19 => ((¬ v18 = 0 → B_X4_isStatement_71 G (d + 1) a0 σ19 Q) ∧ (v18 = 0 → f_o σ19 (some a0) [4] (fun b => W_X4_isWord G d b (some (am_sk G 12)) σ19 (fun v22 σ23 => ((¬ v22 = 0 → B_X4_isStatement_71 G (d + 1) a0 σ23 Q) ∧ (v22 = 0 → f_o σ23 (some a0) [4] (fun b => W_X4_isWord G d b (some (am_sk G 13)) σ23 (fun v26 σ27 => ((v26 = 0 → Q 0 σ27) ∧ (¬ v26 = 0 → B_X4_isStatement_71 G (d + 1) a0 σ27 Q)))))))))))))))))))))))))))))))) : W_X4_isStatement G (d + 1) a0 σ Q := by
  unfold W_X4_isStatement
  refine am_aloadr_n (x := some a0) dX4_isStatement_0 rfl rfl ?_
  refine fx_gi (k := 2) (f_fldC (ref := "PondHouse$Reader") inf_X4 (by decide) q1181 (Or.inl rfl) f_fld0) dX4_isStatement_1 h (fun v1 h => ?_)
  refine am_iconst (v := 2) dX4_isStatement_4 (by decide) ?_
  refine am_icmp_eq (tgt := 71) dX4_isStatement_5 (by decide) (fun c => ?_) (fun c => ?_)
  · have h := h.1 c
    exact am_lss h rfl
  · have h := h.2 c
    refine am_aloadr_n (x := some a0) dX4_isStatement_8 rfl rfl ?_
    refine am_ldcS (i := 7) rfl q1788 dX4_isStatement_9 ?_
    refine fx_callV (Mc := m_X4_isWord) (as := [va_rf (some (am_sk G 7))]) (cs := [4]) (r := (some a0)) (f_clsC inf_X4 qs51 f_cls0) bm_X4_isWord q1710 q1712 (Nat.le_of_ble_eq_true rfl) dX4_isStatement_11 h (fun b h => mt_X4_isWord (fx_k2i h (fun v2 σ3 h => ?_) (fun q σ' h => h.elim)))
    refine am_if_ne (tgt := 71) dX4_isStatement_14 (by decide) (fun c => ?_) (fun c => ?_)
    · have h := h.1 c
      exact am_lss h rfl
    · have h := h.2 c
      refine am_aloadr_n (x := some a0) dX4_isStatement_17 rfl rfl ?_
      refine am_ldcS (i := 8) rfl q1789 dX4_isStatement_18 ?_
      refine fx_callV (Mc := m_X4_isWord) (as := [va_rf (some (am_sk G 8))]) (cs := [4]) (r := (some a0)) (f_clsC inf_X4 qs51 f_cls0) bm_X4_isWord q1710 q1712 (Nat.le_of_ble_eq_true rfl) dX4_isStatement_20 h (fun b h => mt_X4_isWord (fx_k2i h (fun v6 σ7 h => ?_) (fun q σ' h => h.elim)))
      refine am_if_ne (tgt := 71) dX4_isStatement_23 (by decide) (fun c => ?_) (fun c => ?_)
      · have h := h.1 c
        exact am_lss h rfl
      · have h := h.2 c
        refine am_aloadr_n (x := some a0) dX4_isStatement_26 rfl rfl ?_
        refine am_ldcS (i := 9) rfl q1790 dX4_isStatement_27 ?_
        refine fx_callV (Mc := m_X4_isWord) (as := [va_rf (some (am_sk G 9))]) (cs := [4]) (r := (some a0)) (f_clsC inf_X4 qs51 f_cls0) bm_X4_isWord q1710 q1712 (Nat.le_of_ble_eq_true rfl) dX4_isStatement_29 h (fun b h => mt_X4_isWord (fx_k2i h (fun v10 σ11 h => ?_) (fun q σ' h => h.elim)))
        refine am_if_ne (tgt := 71) dX4_isStatement_32 (by decide) (fun c => ?_) (fun c => ?_)
        · have h := h.1 c
          exact am_lss h rfl
        · have h := h.2 c
          refine am_aloadr_n (x := some a0) dX4_isStatement_35 rfl rfl ?_
          refine am_ldcS (i := 10) rfl q1791 dX4_isStatement_36 ?_
          refine fx_callV (Mc := m_X4_isWord) (as := [va_rf (some (am_sk G 10))]) (cs := [4]) (r := (some a0)) (f_clsC inf_X4 qs51 f_cls0) bm_X4_isWord q1710 q1712 (Nat.le_of_ble_eq_true rfl) dX4_isStatement_38 h (fun b h => mt_X4_isWord (fx_k2i h (fun v14 σ15 h => ?_) (fun q σ' h => h.elim)))
          refine am_if_ne (tgt := 71) dX4_isStatement_41 (by decide) (fun c => ?_) (fun c => ?_)
          · have h := h.1 c
            exact am_lss h rfl
          · have h := h.2 c
            refine am_aloadr_n (x := some a0) dX4_isStatement_44 rfl rfl ?_
            refine am_ldcS (i := 11) rfl q1792 dX4_isStatement_45 ?_
            refine fx_callV (Mc := m_X4_isWord) (as := [va_rf (some (am_sk G 11))]) (cs := [4]) (r := (some a0)) (f_clsC inf_X4 qs51 f_cls0) bm_X4_isWord q1710 q1712 (Nat.le_of_ble_eq_true rfl) dX4_isStatement_47 h (fun b h => mt_X4_isWord (fx_k2i h (fun v18 σ19 h => ?_) (fun q σ' h => h.elim)))
            refine am_if_ne (tgt := 71) dX4_isStatement_50 (by decide) (fun c => ?_) (fun c => ?_)
            · have h := h.1 c
              exact am_lss h rfl
            · have h := h.2 c
              refine am_aloadr_n (x := some a0) dX4_isStatement_53 rfl rfl ?_
              refine am_ldcS (i := 12) rfl q1793 dX4_isStatement_54 ?_
              refine fx_callV (Mc := m_X4_isWord) (as := [va_rf (some (am_sk G 12))]) (cs := [4]) (r := (some a0)) (f_clsC inf_X4 qs51 f_cls0) bm_X4_isWord q1710 q1712 (Nat.le_of_ble_eq_true rfl) dX4_isStatement_56 h (fun b h => mt_X4_isWord (fx_k2i h (fun v22 σ23 h => ?_) (fun q σ' h => h.elim)))
              refine am_if_ne (tgt := 71) dX4_isStatement_59 (by decide) (fun c => ?_) (fun c => ?_)
              · have h := h.1 c
                exact am_lss h rfl
              · have h := h.2 c
                refine am_aloadr_n (x := some a0) dX4_isStatement_62 rfl rfl ?_
                refine am_ldcS (i := 13) rfl q1794 dX4_isStatement_63 ?_
                refine fx_callV (Mc := m_X4_isWord) (as := [va_rf (some (am_sk G 13))]) (cs := [4]) (r := (some a0)) (f_clsC inf_X4 qs51 f_cls0) bm_X4_isWord q1710 q1712 (Nat.le_of_ble_eq_true rfl) dX4_isStatement_65 h (fun b h => mt_X4_isWord (fx_k2i h (fun v26 σ27 h => ?_) (fun q σ' h => h.elim)))
                refine am_if_eq (tgt := 75) dX4_isStatement_68 (by decide) (fun c => ?_) (fun c => ?_)
                · have h := h.1 c
                  refine am_iconst (v := 0) dX4_isStatement_75 (by decide) ?_
                  exact am_zret rfl rfl dX4_isStatement_76 h
                · have h := h.2 c
                  exact am_lss h rfl
theorem B_X4_isStatement_71_f {G : am_G} {d : Nat} {a0 : Nat} {σ : am_S} {Q : Int32 → am_S → Prop} (h : Q 1 σ) : B_X4_isStatement_71 G (d + 1) a0 σ Q := by
  unfold B_X4_isStatement_71
  refine am_iconst (v := 1) dX4_isStatement_71 (by decide) ?_
  refine am_goto (tgt := 76) dX4_isStatement_72 (by decide) ?_
  exact am_zret rfl rfl dX4_isStatement_76 h
theorem W_X4_chooses_f {G : am_G} {d : Nat} {a0 : Nat} {σ : am_S} {Q : Option Nat → am_S → Prop} {E : Nat → am_S → Prop} (h : f_o σ (some a0) [4] (fun b => W_X4_opens G d b σ (fun σ2 => f_new G σ2 11 5 tyX12 (fun n5 σ6 => f_gr σ6 (some a0) [4] 7 (fun v7 => f_o σ6 (some a0) [4] (fun b => W_X4_worth G d b σ6 (fun v8 σ9 => W_X12_init G d n5 v7 v8 σ9 (fun σ13 => f_o σ13 (some a0) [4] (fun b => W_X4_block G d b 0 σ13 (fun v16 σ17 => f_p σ17 (some n5) [11] 2 (va_rf v16) (fun σ20 => f_o σ20 (some a0) [4] (fun b => W_X4_takesWord G d b (some (am_sk G 14)) σ20 (fun v21 σ22 => ((v21 = 0 → f_gi σ22 (some a0) [4] 4 (fun v25 => f_p σ22 (some a0) [4] 4 (.int (v25 - 1)) (fun σ26 => Q (some n5) σ26))) ∧ (¬ v21 = 0 → f_o σ22 (some a0) [4] (fun b => W_X4_block G d b 0 σ22 (fun v27 σ28 => f_p σ28 (some n5) [11] 3 (va_rf v27) (fun σ31 => f_gi σ31 (some a0) [4] 4 (fun v32 => f_p σ31 (some a0) [4] 4 (.int (v32 - 1)) (fun σ33 => Q (some n5) σ33)))) E))))))) E))) E)))) E)) : W_X4_chooses G (d + 1) a0 σ Q E := by
  unfold W_X4_chooses
  refine am_aloadr_n (x := some a0) dX4_chooses_0 rfl rfl ?_
  refine fx_callV (Mc := m_X4_opens) (as := []) (cs := [4]) (r := (some a0)) (f_clsC inf_X4 qs63 f_cls0) bm_X4_opens q1799 q1801 (Nat.le_of_ble_eq_true rfl) dX4_chooses_1 h (fun b h => mt_X4_opens (fx_k2v h (fun σ2 h => ?_) (fun q σ' h => am_xout (by decide +kernel) h)))
  refine fx_new inf_X12 q1803 q1804 q190 dX4_chooses_4 h (fun n5 σ6 h => ?_)
  refine am_dup dX4_chooses_7 (am_rf_cat _) ?_
  refine am_aloadr_n (x := some a0) dX4_chooses_8 rfl rfl ?_
  refine fx_gr (k := 7) (f_fldC (ref := "PondHouse$Reader") inf_X4 (by decide) q1187 (Or.inl rfl) f_fld0) dX4_chooses_9 h (fun v7 h => ?_)
  refine am_aloadr_n (x := some a0) dX4_chooses_12 rfl rfl ?_
  refine fx_callV (Mc := m_X4_worth) (as := []) (cs := [4]) (r := (some a0)) (f_clsC inf_X4 qs64 f_cls0) bm_X4_worth q1805 q1807 (Nat.le_of_ble_eq_true rfl) dX4_chooses_13 h (fun b h => mt_X4_worth (fx_k2r h (fun v8 σ9 h => ?_) (fun q σ' h => am_xout (by decide +kernel) h)))
  refine fx_callI (Mc := m_X12_init) (as := [va_rf v7, va_rf v8]) bm_X12_init q1923 q1924 rfl rfl (Nat.le_of_ble_eq_true rfl) dX4_chooses_16 (mt_X12_init (fx_k2v h (fun σ13 h => ?_) (fun q σ' h => h.elim)))
  refine am_astore_n (x := (some n5)) (L' := [(2, va_rf (some n5)), (0, va_rf (some a0))]) dX4_chooses_19 rfl (Nat.le_of_ble_eq_true rfl) rfl ?_
  refine am_aloadr_n (x := (some n5)) dX4_chooses_20 rfl rfl ?_
  refine am_aloadr_n (x := some a0) dX4_chooses_21 rfl rfl ?_
  refine am_iconst (v := 0) dX4_chooses_22 (by decide) ?_
  refine fx_callV (Mc := m_X4_block) (as := [.int 0]) (cs := [4]) (r := (some a0)) (f_clsC inf_X4 qs59 f_cls0) bm_X4_block q1758 q1760 (Nat.le_of_ble_eq_true rfl) dX4_chooses_23 h (fun b h => mt_X4_block (fx_k2r h (fun v16 σ17 h => ?_) (fun q σ' h => am_xout (by decide +kernel) h)))
  refine fx_p (k := 2) (v := va_rf v16) (f_putN inf_X12 (by decide) (f_nrf _ _) (f_frf _ _) q1932 rfl f_put0) dX4_chooses_26 h (fun σ20 h => ?_)
  refine am_aloadr_n (x := some a0) dX4_chooses_29 rfl rfl ?_
  refine am_ldcS (i := 14) rfl q1948 dX4_chooses_30 ?_
  refine fx_callV (Mc := m_X4_takesWord) (as := [va_rf (some (am_sk G 14))]) (cs := [4]) (r := (some a0)) (f_clsC inf_X4 qs50 f_cls0) bm_X4_takesWord q1706 q1708 (Nat.le_of_ble_eq_true rfl) dX4_chooses_32 h (fun b h => mt_X4_takesWord (fx_k2i h (fun v21 σ22 h => ?_) (fun q σ' h => h.elim)))
  refine am_if_eq (tgt := 47) dX4_chooses_35 (by decide) (fun c => ?_) (fun c => ?_)
  · have h := h.1 c
    refine am_aloadr_n (x := some a0) dX4_chooses_47 rfl rfl ?_
    refine am_dup dX4_chooses_48 (am_rf_cat _) ?_
    refine fx_gi (k := 4) (f_fldC (ref := "PondHouse$Reader") inf_X4 (by decide) q1184 (Or.inl rfl) f_fld0) dX4_chooses_49 h (fun v25 h => ?_)
    refine am_iconst (v := 1) dX4_chooses_52 (by decide) ?_
    refine am_isub dX4_chooses_53 ?_
    refine fx_p (k := 4) (v := .int (v25 - 1)) (f_putC inf_X4 (by decide) rfl rfl q1184 (Or.inl rfl) f_put0) dX4_chooses_54 h (fun σ26 h => ?_)
    refine am_aloadr_n (x := (some n5)) dX4_chooses_57 rfl rfl ?_
    exact fx_aret rfl rfl dX4_chooses_58 h
  · have h := h.2 c
    refine am_aloadr_n (x := (some n5)) dX4_chooses_38 rfl rfl ?_
    refine am_aloadr_n (x := some a0) dX4_chooses_39 rfl rfl ?_
    refine am_iconst (v := 0) dX4_chooses_40 (by decide) ?_
    refine fx_callV (Mc := m_X4_block) (as := [.int 0]) (cs := [4]) (r := (some a0)) (f_clsC inf_X4 qs59 f_cls0) bm_X4_block q1758 q1760 (Nat.le_of_ble_eq_true rfl) dX4_chooses_41 h (fun b h => mt_X4_block (fx_k2r h (fun v27 σ28 h => ?_) (fun q σ' h => am_xout (by decide +kernel) h)))
    refine fx_p (k := 3) (v := va_rf v27) (f_putN inf_X12 (by decide) (f_nrf _ _) (f_frf _ _) q1934 rfl f_put0) dX4_chooses_44 h (fun σ31 h => ?_)
    refine am_aloadr_n (x := some a0) dX4_chooses_47 rfl rfl ?_
    refine am_dup dX4_chooses_48 (am_rf_cat _) ?_
    refine fx_gi (k := 4) (f_fldC (ref := "PondHouse$Reader") inf_X4 (by decide) q1184 (Or.inl rfl) f_fld0) dX4_chooses_49 h (fun v32 h => ?_)
    refine am_iconst (v := 1) dX4_chooses_52 (by decide) ?_
    refine am_isub dX4_chooses_53 ?_
    refine fx_p (k := 4) (v := .int (v32 - 1)) (f_putC inf_X4 (by decide) rfl rfl q1184 (Or.inl rfl) f_put0) dX4_chooses_54 h (fun σ33 h => ?_)
    refine am_aloadr_n (x := (some n5)) dX4_chooses_57 rfl rfl ?_
    exact fx_aret rfl rfl dX4_chooses_58 h
theorem W_X4_opens_f {G : am_G} {d : Nat} {a0 : Nat} {σ : am_S} {Q : am_S → Prop} {E : Nat → am_S → Prop} (h : f_gi σ (some a0) [4] 4 (fun v1 => ((¬ v1 = 12 → f_gi σ (some a0) [4] 4 (fun v2 => f_p σ (some a0) [4] 4 (.int (v2 + 1)) (fun σ3 => f_o σ3 (some a0) [4] (fun b => W_X4_next G d b σ3 (fun σ5 => Q σ5))))) ∧ (v1 = 12 → f_gr σ (some a0) [4] 7 (fun v8 => f_gi σ (some a0) [4] 1 (fun v9 => f_o σ v8 [0] (fun b => W_X0_refused G d b 3 v9 σ (fun v10 σ11 => f_o σ11 v10 [3] (fun q => E q σ11))))))))) : W_X4_opens G (d + 1) a0 σ Q E := by
  unfold W_X4_opens
  refine am_aloadr_n (x := some a0) dX4_opens_0 rfl rfl ?_
  refine fx_gi (k := 4) (f_fldC (ref := "PondHouse$Reader") inf_X4 (by decide) q1184 (Or.inl rfl) f_fld0) dX4_opens_1 h (fun v1 h => ?_)
  refine am_bipush (v := 12) dX4_opens_4 (by decide) ?_
  refine am_icmp_ne (tgt := 22) dX4_opens_6 (by decide) (fun c => ?_) (fun c => ?_)
  · have h := h.1 c
    refine am_aloadr_n (x := some a0) dX4_opens_22 rfl rfl ?_
    refine am_dup dX4_opens_23 (am_rf_cat _) ?_
    refine fx_gi (k := 4) (f_fldC (ref := "PondHouse$Reader") inf_X4 (by decide) q1184 (Or.inl rfl) f_fld0) dX4_opens_24 h (fun v2 h => ?_)
    refine am_iconst (v := 1) dX4_opens_27 (by decide) ?_
    refine am_iadd dX4_opens_28 ?_
    refine fx_p (k := 4) (v := .int (v2 + 1)) (f_putC inf_X4 (by decide) rfl rfl q1184 (Or.inl rfl) f_put0) dX4_opens_29 h (fun σ3 h => ?_)
    refine am_aloadr_n (x := some a0) dX4_opens_32 rfl rfl ?_
    refine fx_callV (Mc := m_X4_next) (as := []) (cs := [4]) (r := (some a0)) (f_clsC inf_X4 qs36 f_cls0) bm_X4_next q1396 q1398 (Nat.le_of_ble_eq_true rfl) dX4_opens_33 h (fun b h => mt_X4_next (fx_k2v h (fun σ5 h => ?_) (fun q σ' h => h.elim)))
    exact am_vret rfl dX4_opens_36 h
  · have h := h.2 c
    refine am_aloadr_n (x := some a0) dX4_opens_9 rfl rfl ?_
    refine fx_gr (k := 7) (f_fldC (ref := "PondHouse$Reader") inf_X4 (by decide) q1187 (Or.inl rfl) f_fld0) dX4_opens_10 h (fun v8 h => ?_)
    refine am_iconst (v := 3) dX4_opens_13 (by decide) ?_
    refine am_aloadr_n (x := some a0) dX4_opens_14 rfl rfl ?_
    refine fx_gi (k := 1) (f_fldC (ref := "PondHouse$Reader") inf_X4 (by decide) q1180 (Or.inl rfl) f_fld0) dX4_opens_15 h (fun v9 h => ?_)
    refine fx_callVN (Mc := m_X0_refused) (as := [.int 3, .int v9]) (cs := [0]) (r := v8) (f_clsC inf_X0 qs47 f_cls0) bm_X0_refused q1686 q1688 (Nat.le_of_ble_eq_true rfl) dX4_opens_18 h (fun b h => mt_X0_refused (fx_k2r h (fun v10 σ11 h => ?_) (fun q σ' h => h.elim)))
    exact fx_throw (cs := [3]) dX4_opens_21 h (fun q h => am_xout (by decide +kernel) h)
theorem W_X4_worth_f {G : am_G} {d : Nat} {a0 : Nat} {σ : am_S} {Q : Option Nat → am_S → Prop} {E : Nat → am_S → Prop} (h : f_o σ (some a0) [4] (fun b => W_X4_sum G d b σ (fun v1 σ2 => f_o σ2 (some a0) [4] (fun b => W_X4_isSign G d b 60 σ2 (fun v5 σ6 => ((¬ v5 = 0 → B_X4_worth_26 G (d + 1) a0 v1 σ6 Q E) ∧ (v5 = 0 → f_o σ6 (some a0) [4] (fun b => W_X4_isSign G d b 256 σ6 (fun v9 σ10 => ((¬ v9 = 0 → B_X4_worth_26 G (d + 1) a0 v1 σ10 Q E) ∧ (v9 = 0 → Q v1 σ10))))))))) E)) : W_X4_worth G (d + 1) a0 σ Q E := by
  unfold W_X4_worth
  refine am_aloadr_n (x := some a0) dX4_worth_0 rfl rfl ?_
  refine fx_callV (Mc := m_X4_sum) (as := []) (cs := [4]) (r := (some a0)) (f_clsC inf_X4 qs65 f_cls0) bm_X4_sum q1809 q1811 (Nat.le_of_ble_eq_true rfl) dX4_worth_1 h (fun b h => mt_X4_sum (fx_k2r h (fun v1 σ2 h => ?_) (fun q σ' h => am_xout (by decide +kernel) h)))
  refine am_astore_n (x := v1) (L' := [(2, va_rf v1), (0, va_rf (some a0))]) dX4_worth_4 rfl (Nat.le_of_ble_eq_true rfl) rfl ?_
  refine am_aloadr_n (x := some a0) dX4_worth_5 rfl rfl ?_
  refine am_bipush (v := 60) dX4_worth_6 (by decide) ?_
  refine fx_callV (Mc := m_X4_isSign) (as := [.int 60]) (cs := [4]) (r := (some a0)) (f_clsC inf_X4 qs55 f_cls0) bm_X4_isSign q1733 q1735 (Nat.le_of_ble_eq_true rfl) dX4_worth_8 h (fun b h => mt_X4_isSign (fx_k2i h (fun v5 σ6 h => ?_) (fun q σ' h => h.elim)))
  refine am_if_ne (tgt := 26) dX4_worth_11 (by decide) (fun c => ?_) (fun c => ?_)
  · have h := h.1 c
    exact am_lss h rfl
  · have h := h.2 c
    refine am_aloadr_n (x := some a0) dX4_worth_14 rfl rfl ?_
    refine am_sipush (v := 256) dX4_worth_15 (by decide) ?_
    refine fx_callV (Mc := m_X4_isSign) (as := [.int 256]) (cs := [4]) (r := (some a0)) (f_clsC inf_X4 qs55 f_cls0) bm_X4_isSign q1733 q1735 (Nat.le_of_ble_eq_true rfl) dX4_worth_18 h (fun b h => mt_X4_isSign (fx_k2i h (fun v9 σ10 h => ?_) (fun q σ' h => h.elim)))
    refine am_if_ne (tgt := 26) dX4_worth_21 (by decide) (fun c => ?_) (fun c => ?_)
    · have h := h.1 c
      exact am_lss h rfl
    · have h := h.2 c
      refine am_aloadr_n (x := v1) dX4_worth_24 rfl rfl ?_
      exact fx_aret rfl rfl dX4_worth_25 h
theorem B_X4_worth_26_f {G : am_G} {d : Nat} {a0 : Nat} {x1 : Option Nat} {σ : am_S} {Q : Option Nat → am_S → Prop} {E : Nat → am_S → Prop} (h : f_new G σ 16 6 tyX18 (fun n1 σ2 => f_gr σ2 (some a0) [4] 7 (fun v3 => W_X18_init G d n1 v3 x1 σ2 (fun σ5 => f_gi σ5 (some a0) [4] 3 (fun v8 => ((¬ v8 = 256 → B_X4_worth_56 G (d + 1) a0 (some n1) 60 σ5 Q E) ∧ (v8 = 256 → B_X4_worth_56 G (d + 1) a0 (some n1) 61 σ5 Q E))))))) : B_X4_worth_26 G (d + 1) a0 x1 σ Q E := by
  unfold B_X4_worth_26
  refine fx_new inf_X18 q1885 q464 q196 dX4_worth_26 h (fun n1 σ2 h => ?_)
  refine am_dup dX4_worth_29 (am_rf_cat _) ?_
  refine am_aloadr_n (x := some a0) dX4_worth_30 rfl rfl ?_
  refine fx_gr (k := 7) (f_fldC (ref := "PondHouse$Reader") inf_X4 (by decide) q1187 (Or.inl rfl) f_fld0) dX4_worth_31 h (fun v3 h => ?_)
  refine am_aloadr_n (x := x1) dX4_worth_34 rfl rfl ?_
  refine fx_callI (Mc := m_X18_init) (as := [va_rf v3, va_rf x1]) bm_X18_init q1886 q1887 rfl rfl (Nat.le_of_ble_eq_true rfl) dX4_worth_35 (mt_X18_init (fx_k2v h (fun σ5 h => ?_) (fun q σ' h => h.elim)))
  refine am_astore_n (x := (some n1)) (L' := [(4, va_rf (some n1)), (0, va_rf (some a0)), (2, va_rf x1)]) dX4_worth_38 rfl (Nat.le_of_ble_eq_true rfl) rfl ?_
  refine am_aloadr_n (x := some a0) dX4_worth_39 rfl rfl ?_
  refine fx_gi (k := 3) (f_fldC (ref := "PondHouse$Reader") inf_X4 (by decide) q1183 (Or.inl rfl) f_fld0) dX4_worth_40 h (fun v8 h => ?_)
  refine am_sipush (v := 256) dX4_worth_43 (by decide) ?_
  refine am_icmp_ne (tgt := 54) dX4_worth_46 (by decide) (fun c => ?_) (fun c => ?_)
  · have h := h.1 c
    refine am_bipush (v := 60) dX4_worth_54 (by decide) ?_
    exact am_lss h rfl
  · have h := h.2 c
    refine am_bipush (v := 61) dX4_worth_49 (by decide) ?_
    refine am_goto (tgt := 56) dX4_worth_51 (by decide) ?_
    exact am_lss h rfl
theorem B_X4_worth_56_f {G : am_G} {d : Nat} {a0 : Nat} {x2 : Option Nat} {s0 : Int32} {σ : am_S} {Q : Option Nat → am_S → Prop} {E : Nat → am_S → Prop} (h : f_o σ (some a0) [4] (fun b => W_X4_next G d b σ (fun σ2 => f_o σ2 (some a0) [4] (fun b => W_X4_sum G d b σ2 (fun v5 σ6 => f_o σ6 x2 [16] (fun b => W_X18_add G d b s0 v5 σ6 (fun σ10 => Q x2 σ10))) E)))) : B_X4_worth_56 G (d + 1) a0 x2 s0 σ Q E := by
  unfold B_X4_worth_56
  refine am_istore_n (L' := [(6, .int s0), (0, va_rf (some a0)), (4, va_rf x2)]) dX4_worth_56 rfl (Nat.le_of_ble_eq_true rfl) rfl ?_
  refine am_aloadr_n (x := some a0) dX4_worth_57 rfl rfl ?_
  refine fx_callV (Mc := m_X4_next) (as := []) (cs := [4]) (r := (some a0)) (f_clsC inf_X4 qs36 f_cls0) bm_X4_next q1396 q1398 (Nat.le_of_ble_eq_true rfl) dX4_worth_58 h (fun b h => mt_X4_next (fx_k2v h (fun σ2 h => ?_) (fun q σ' h => h.elim)))
  refine am_aloadr_n (x := x2) dX4_worth_61 rfl rfl ?_
  refine am_iload_n (x := s0) dX4_worth_62 rfl rfl ?_
  refine am_aloadr_n (x := some a0) dX4_worth_63 rfl rfl ?_
  refine fx_callV (Mc := m_X4_sum) (as := []) (cs := [4]) (r := (some a0)) (f_clsC inf_X4 qs65 f_cls0) bm_X4_sum q1809 q1811 (Nat.le_of_ble_eq_true rfl) dX4_worth_64 h (fun b h => mt_X4_sum (fx_k2r h (fun v5 σ6 h => ?_) (fun q σ' h => am_xout (by decide +kernel) h)))
  refine fx_callV (Mc := m_X18_add) (as := [.int s0, va_rf v5]) (cs := [16]) (r := x2) (f_clsC inf_X18 q1912 f_cls0) bm_X18_add q1910 q1911 (Nat.le_of_ble_eq_true rfl) dX4_worth_67 h (fun b h => mt_X18_add (fx_k2v h (fun σ10 h => ?_) (fun q σ' h => h.elim)))
  refine am_aloadr_n (x := x2) dX4_worth_70 rfl rfl ?_
  exact fx_aret rfl rfl dX4_worth_71 h
theorem W_X4_sum_f {G : am_G} {d : Nat} {a0 : Nat} {σ : am_S} {Q : Option Nat → am_S → Prop} {E : Nat → am_S → Prop} (h : f_o σ (some a0) [4] (fun b => W_X4_product G d b σ (fun v1 σ2 => B_X4_sum_7 G (d + 1) a0 v1 none σ2 Q E) E)) : W_X4_sum G (d + 1) a0 σ Q E := by
  unfold W_X4_sum
  refine am_aloadr_n (x := some a0) dX4_sum_0 rfl rfl ?_
  refine fx_callV (Mc := m_X4_product) (as := []) (cs := [4]) (r := (some a0)) (f_clsC inf_X4 qs66 f_cls0) bm_X4_product q1813 q1815 (Nat.le_of_ble_eq_true rfl) dX4_sum_1 h (fun b h => mt_X4_product (fx_k2r h (fun v1 σ2 h => ?_) (fun q σ' h => am_xout (by decide +kernel) h)))
  refine am_astore_n (x := v1) (L' := [(2, va_rf v1), (0, va_rf (some a0))]) dX4_sum_4 rfl (Nat.le_of_ble_eq_true rfl) rfl ?_
  refine am_null dX4_sum_5 ?_
  refine am_astore_n (x := none) (L' := [(4, va_rf none), (2, va_rf v1), (0, va_rf (some a0))]) dX4_sum_6 rfl (Nat.le_of_ble_eq_true rfl) rfl ?_
  exact am_lss h rfl
theorem B_X4_sum_7_f {G : am_G} {d : Nat} {a0 : Nat} {x1 : Option Nat} {x2 : Option Nat} {σ : am_S} {Q : Option Nat → am_S → Prop} {E : Nat → am_S → Prop} (h : f_o σ (some a0) [4] (fun b => W_X4_isSign G d b 43 σ (fun v1 σ2 => ((¬ v1 = 0 → ((¬ x2 = none → B_X4_sum_42 G (d + 1) a0 x1 x2 σ2 Q E) ∧ (x2 = none → f_new G σ2 16 6 tyX18 (fun n5 σ6 => f_gr σ6 (some a0) [4] 7 (fun v7 => W_X18_init G d n5 v7 x1 σ6 (fun σ9 => B_X4_sum_42 G (d + 1) a0 x1 (some n5) σ9 Q E)))))) ∧ (v1 = 0 → f_o σ2 (some a0) [4] (fun b => W_X4_isSign G d b 45 σ2 (fun v12 σ13 => ((v12 = 0 → ((¬ x2 = none → Q x2 σ13) ∧ (x2 = none → Q x1 σ13))) ∧ (¬ v12 = 0 → ((¬ x2 = none → B_X4_sum_42 G (d + 1) a0 x1 x2 σ13 Q E) ∧ (x2 = none → f_new G σ13 16 6 tyX18 (fun n16 σ17 => f_gr σ17 (some a0) [4] 7 (fun v18 => W_X18_init G d n16 v18 x1 σ17 (fun σ20 => B_X4_sum_42 G (d + 1) a0 x1 (some n16) σ20 Q E)))))))))))))) : B_X4_sum_7 G (d + 1) a0 x1 x2 σ Q E := by
  unfold B_X4_sum_7
  refine am_aloadr_n (x := some a0) dX4_sum_7 rfl rfl ?_
  refine am_bipush (v := 43) dX4_sum_8 (by decide) ?_
  refine fx_callV (Mc := m_X4_isSign) (as := [.int 43]) (cs := [4]) (r := (some a0)) (f_clsC inf_X4 qs55 f_cls0) bm_X4_isSign q1733 q1735 (Nat.le_of_ble_eq_true rfl) dX4_sum_10 h (fun b h => mt_X4_isSign (fx_k2i h (fun v1 σ2 h => ?_) (fun q σ' h => h.elim)))
  refine am_if_ne (tgt := 25) dX4_sum_13 (by decide) (fun c => ?_) (fun c => ?_)
  · have h := h.1 c
    refine am_aloadr_n (x := x2) dX4_sum_25 rfl rfl ?_
    refine am_ifnonnullr (tgt := 42) dX4_sum_26 (by decide) (fun c => ?_) (fun c => ?_)
    · have h := h.1 c
      exact am_lss h rfl
    · have h := h.2 c
      refine fx_new inf_X18 q1885 q464 q196 dX4_sum_29 h (fun n5 σ6 h => ?_)
      refine am_dup dX4_sum_32 (am_rf_cat _) ?_
      refine am_aloadr_n (x := some a0) dX4_sum_33 rfl rfl ?_
      refine fx_gr (k := 7) (f_fldC (ref := "PondHouse$Reader") inf_X4 (by decide) q1187 (Or.inl rfl) f_fld0) dX4_sum_34 h (fun v7 h => ?_)
      refine am_aloadr_n (x := x1) dX4_sum_37 rfl rfl ?_
      refine fx_callI (Mc := m_X18_init) (as := [va_rf v7, va_rf x1]) bm_X18_init q1886 q1887 rfl rfl (Nat.le_of_ble_eq_true rfl) dX4_sum_38 (mt_X18_init (fx_k2v h (fun σ9 h => ?_) (fun q σ' h => h.elim)))
      refine am_astore_n (x := (some n5)) (L' := [(4, va_rf (some n5)), (0, va_rf (some a0)), (2, va_rf x1)]) dX4_sum_41 rfl (Nat.le_of_ble_eq_true rfl) rfl ?_
      exact am_lss h rfl
  · have h := h.2 c
    refine am_aloadr_n (x := some a0) dX4_sum_16 rfl rfl ?_
    refine am_bipush (v := 45) dX4_sum_17 (by decide) ?_
    refine fx_callV (Mc := m_X4_isSign) (as := [.int 45]) (cs := [4]) (r := (some a0)) (f_clsC inf_X4 qs55 f_cls0) bm_X4_isSign q1733 q1735 (Nat.le_of_ble_eq_true rfl) dX4_sum_19 h (fun b h => mt_X4_isSign (fx_k2i h (fun v12 σ13 h => ?_) (fun q σ' h => h.elim)))
    refine am_if_eq (tgt := 64) dX4_sum_22 (by decide) (fun c => ?_) (fun c => ?_)
    · have h := h.1 c
      refine am_aloadr_n (x := x2) dX4_sum_64 rfl rfl ?_
      refine am_ifnonnullr (tgt := 72) dX4_sum_65 (by decide) (fun c => ?_) (fun c => ?_)
      · have h := h.1 c
        refine am_aloadr_n (x := x2) dX4_sum_72 rfl rfl ?_
        exact fx_aret rfl rfl dX4_sum_73 h
      · have h := h.2 c
        refine am_aloadr_n (x := x1) dX4_sum_68 rfl rfl ?_
        refine am_goto (tgt := 73) dX4_sum_69 (by decide) ?_
        exact fx_aret rfl rfl dX4_sum_73 h
    · have h := h.2 c
      refine am_aloadr_n (x := x2) dX4_sum_25 rfl rfl ?_
      refine am_ifnonnullr (tgt := 42) dX4_sum_26 (by decide) (fun c => ?_) (fun c => ?_)
      · have h := h.1 c
        exact am_lss h rfl
      · have h := h.2 c
        refine fx_new inf_X18 q1885 q464 q196 dX4_sum_29 h (fun n16 σ17 h => ?_)
        refine am_dup dX4_sum_32 (am_rf_cat _) ?_
        refine am_aloadr_n (x := some a0) dX4_sum_33 rfl rfl ?_
        refine fx_gr (k := 7) (f_fldC (ref := "PondHouse$Reader") inf_X4 (by decide) q1187 (Or.inl rfl) f_fld0) dX4_sum_34 h (fun v18 h => ?_)
        refine am_aloadr_n (x := x1) dX4_sum_37 rfl rfl ?_
        refine fx_callI (Mc := m_X18_init) (as := [va_rf v18, va_rf x1]) bm_X18_init q1886 q1887 rfl rfl (Nat.le_of_ble_eq_true rfl) dX4_sum_38 (mt_X18_init (fx_k2v h (fun σ20 h => ?_) (fun q σ' h => h.elim)))
        refine am_astore_n (x := (some n16)) (L' := [(4, va_rf (some n16)), (0, va_rf (some a0)), (2, va_rf x1)]) dX4_sum_41 rfl (Nat.le_of_ble_eq_true rfl) rfl ?_
        exact am_lss h rfl
theorem B_X4_sum_42_f {G : am_G} {d : Nat} {a0 : Nat} {x1 : Option Nat} {x2 : Option Nat} {σ : am_S} {Q : Option Nat → am_S → Prop} {E : Nat → am_S → Prop} (h : f_gi σ (some a0) [4] 3 (fun v1 => f_o σ (some a0) [4] (fun b => W_X4_next G d b σ (fun σ3 => f_o σ3 (some a0) [4] (fun b => W_X4_product G d b σ3 (fun v6 σ7 => f_o σ7 x2 [16] (fun b => W_X18_add G d b (((Int32.toUInt32 v1) % 65536).toInt32) v6 σ7 (fun σ11 => B_X4_sum_7 G (d + 1) a0 x1 x2 σ11 Q E))) E))))) : B_X4_sum_42 G (d + 1) a0 x1 x2 σ Q E := by
  unfold B_X4_sum_42
  refine am_aloadr_n (x := some a0) dX4_sum_42 rfl rfl ?_
  refine fx_gi (k := 3) (f_fldC (ref := "PondHouse$Reader") inf_X4 (by decide) q1183 (Or.inl rfl) f_fld0) dX4_sum_43 h (fun v1 h => ?_)
  refine am_i2c dX4_sum_46 rfl ?_
  refine am_istore_n (L' := [(6, .int (((Int32.toUInt32 v1) % 65536).toInt32)), (0, va_rf (some a0)), (2, va_rf x1), (4, va_rf x2)]) dX4_sum_47 rfl (Nat.le_of_ble_eq_true rfl) rfl ?_
  refine am_aloadr_n (x := some a0) dX4_sum_48 rfl rfl ?_
  refine fx_callV (Mc := m_X4_next) (as := []) (cs := [4]) (r := (some a0)) (f_clsC inf_X4 qs36 f_cls0) bm_X4_next q1396 q1398 (Nat.le_of_ble_eq_true rfl) dX4_sum_49 h (fun b h => mt_X4_next (fx_k2v h (fun σ3 h => ?_) (fun q σ' h => h.elim)))
  refine am_aloadr_n (x := x2) dX4_sum_52 rfl rfl ?_
  refine am_iload_n (x := (((Int32.toUInt32 v1) % 65536).toInt32)) dX4_sum_53 rfl rfl ?_
  refine am_aloadr_n (x := some a0) dX4_sum_54 rfl rfl ?_
  refine fx_callV (Mc := m_X4_product) (as := []) (cs := [4]) (r := (some a0)) (f_clsC inf_X4 qs66 f_cls0) bm_X4_product q1813 q1815 (Nat.le_of_ble_eq_true rfl) dX4_sum_55 h (fun b h => mt_X4_product (fx_k2r h (fun v6 σ7 h => ?_) (fun q σ' h => am_xout (by decide +kernel) h)))
  refine fx_callV (Mc := m_X18_add) (as := [.int (((Int32.toUInt32 v1) % 65536).toInt32), va_rf v6]) (cs := [16]) (r := x2) (f_clsC inf_X18 q1912 f_cls0) bm_X18_add q1910 q1911 (Nat.le_of_ble_eq_true rfl) dX4_sum_58 h (fun b h => mt_X18_add (fx_k2v h (fun σ11 h => ?_) (fun q σ' h => h.elim)))
  refine am_goto (tgt := 7) dX4_sum_61 (by decide) ?_
  exact am_lss h rfl
theorem W_X4_product_f {G : am_G} {d : Nat} {a0 : Nat} {σ : am_S} {Q : Option Nat → am_S → Prop} {E : Nat → am_S → Prop} (h : f_o σ (some a0) [4] (fun b => W_X4_unit G d b σ (fun v1 σ2 => B_X4_product_7 G (d + 1) a0 v1 none σ2 Q E) E)) : W_X4_product G (d + 1) a0 σ Q E := by
  unfold W_X4_product
  refine am_aloadr_n (x := some a0) dX4_product_0 rfl rfl ?_
  refine fx_callV (Mc := m_X4_unit) (as := []) (cs := [4]) (r := (some a0)) (f_clsC inf_X4 qs67 f_cls0) bm_X4_unit q1817 q1819 (Nat.le_of_ble_eq_true rfl) dX4_product_1 h (fun b h => mt_X4_unit (fx_k2r h (fun v1 σ2 h => ?_) (fun q σ' h => am_xout (by decide +kernel) h)))
  refine am_astore_n (x := v1) (L' := [(2, va_rf v1), (0, va_rf (some a0))]) dX4_product_4 rfl (Nat.le_of_ble_eq_true rfl) rfl ?_
  refine am_null dX4_product_5 ?_
  refine am_astore_n (x := none) (L' := [(4, va_rf none), (2, va_rf v1), (0, va_rf (some a0))]) dX4_product_6 rfl (Nat.le_of_ble_eq_true rfl) rfl ?_
  exact am_lss h rfl
theorem B_X4_product_7_f {G : am_G} {d : Nat} {a0 : Nat} {x1 : Option Nat} {x2 : Option Nat} {σ : am_S} {Q : Option Nat → am_S → Prop} {E : Nat → am_S → Prop} (h : f_o σ (some a0) [4] (fun b => W_X4_isSign G d b 42 σ (fun v1 σ2 => ((¬ v1 = 0 → ((¬ x2 = none → B_X4_product_42 G (d + 1) a0 x1 x2 σ2 Q E) ∧ (x2 = none → f_new G σ2 16 6 tyX18 (fun n5 σ6 => f_gr σ6 (some a0) [4] 7 (fun v7 => W_X18_init G d n5 v7 x1 σ6 (fun σ9 => B_X4_product_42 G (d + 1) a0 x1 (some n5) σ9 Q E)))))) ∧ (v1 = 0 → f_o σ2 (some a0) [4] (fun b => W_X4_isSign G d b 47 σ2 (fun v12 σ13 => ((v12 = 0 → ((¬ x2 = none → Q x2 σ13) ∧ (x2 = none → Q x1 σ13))) ∧ (¬ v12 = 0 → ((¬ x2 = none → B_X4_product_42 G (d + 1) a0 x1 x2 σ13 Q E) ∧ (x2 = none → f_new G σ13 16 6 tyX18 (fun n16 σ17 => f_gr σ17 (some a0) [4] 7 (fun v18 => W_X18_init G d n16 v18 x1 σ17 (fun σ20 => B_X4_product_42 G (d + 1) a0 x1 (some n16) σ20 Q E)))))))))))))) : B_X4_product_7 G (d + 1) a0 x1 x2 σ Q E := by
  unfold B_X4_product_7
  refine am_aloadr_n (x := some a0) dX4_product_7 rfl rfl ?_
  refine am_bipush (v := 42) dX4_product_8 (by decide) ?_
  refine fx_callV (Mc := m_X4_isSign) (as := [.int 42]) (cs := [4]) (r := (some a0)) (f_clsC inf_X4 qs55 f_cls0) bm_X4_isSign q1733 q1735 (Nat.le_of_ble_eq_true rfl) dX4_product_10 h (fun b h => mt_X4_isSign (fx_k2i h (fun v1 σ2 h => ?_) (fun q σ' h => h.elim)))
  refine am_if_ne (tgt := 25) dX4_product_13 (by decide) (fun c => ?_) (fun c => ?_)
  · have h := h.1 c
    refine am_aloadr_n (x := x2) dX4_product_25 rfl rfl ?_
    refine am_ifnonnullr (tgt := 42) dX4_product_26 (by decide) (fun c => ?_) (fun c => ?_)
    · have h := h.1 c
      exact am_lss h rfl
    · have h := h.2 c
      refine fx_new inf_X18 q1885 q464 q196 dX4_product_29 h (fun n5 σ6 h => ?_)
      refine am_dup dX4_product_32 (am_rf_cat _) ?_
      refine am_aloadr_n (x := some a0) dX4_product_33 rfl rfl ?_
      refine fx_gr (k := 7) (f_fldC (ref := "PondHouse$Reader") inf_X4 (by decide) q1187 (Or.inl rfl) f_fld0) dX4_product_34 h (fun v7 h => ?_)
      refine am_aloadr_n (x := x1) dX4_product_37 rfl rfl ?_
      refine fx_callI (Mc := m_X18_init) (as := [va_rf v7, va_rf x1]) bm_X18_init q1886 q1887 rfl rfl (Nat.le_of_ble_eq_true rfl) dX4_product_38 (mt_X18_init (fx_k2v h (fun σ9 h => ?_) (fun q σ' h => h.elim)))
      refine am_astore_n (x := (some n5)) (L' := [(4, va_rf (some n5)), (0, va_rf (some a0)), (2, va_rf x1)]) dX4_product_41 rfl (Nat.le_of_ble_eq_true rfl) rfl ?_
      exact am_lss h rfl
  · have h := h.2 c
    refine am_aloadr_n (x := some a0) dX4_product_16 rfl rfl ?_
    refine am_bipush (v := 47) dX4_product_17 (by decide) ?_
    refine fx_callV (Mc := m_X4_isSign) (as := [.int 47]) (cs := [4]) (r := (some a0)) (f_clsC inf_X4 qs55 f_cls0) bm_X4_isSign q1733 q1735 (Nat.le_of_ble_eq_true rfl) dX4_product_19 h (fun b h => mt_X4_isSign (fx_k2i h (fun v12 σ13 h => ?_) (fun q σ' h => h.elim)))
    refine am_if_eq (tgt := 64) dX4_product_22 (by decide) (fun c => ?_) (fun c => ?_)
    · have h := h.1 c
      refine am_aloadr_n (x := x2) dX4_product_64 rfl rfl ?_
      refine am_ifnonnullr (tgt := 72) dX4_product_65 (by decide) (fun c => ?_) (fun c => ?_)
      · have h := h.1 c
        refine am_aloadr_n (x := x2) dX4_product_72 rfl rfl ?_
        exact fx_aret rfl rfl dX4_product_73 h
      · have h := h.2 c
        refine am_aloadr_n (x := x1) dX4_product_68 rfl rfl ?_
        refine am_goto (tgt := 73) dX4_product_69 (by decide) ?_
        exact fx_aret rfl rfl dX4_product_73 h
    · have h := h.2 c
      refine am_aloadr_n (x := x2) dX4_product_25 rfl rfl ?_
      refine am_ifnonnullr (tgt := 42) dX4_product_26 (by decide) (fun c => ?_) (fun c => ?_)
      · have h := h.1 c
        exact am_lss h rfl
      · have h := h.2 c
        refine fx_new inf_X18 q1885 q464 q196 dX4_product_29 h (fun n16 σ17 h => ?_)
        refine am_dup dX4_product_32 (am_rf_cat _) ?_
        refine am_aloadr_n (x := some a0) dX4_product_33 rfl rfl ?_
        refine fx_gr (k := 7) (f_fldC (ref := "PondHouse$Reader") inf_X4 (by decide) q1187 (Or.inl rfl) f_fld0) dX4_product_34 h (fun v18 h => ?_)
        refine am_aloadr_n (x := x1) dX4_product_37 rfl rfl ?_
        refine fx_callI (Mc := m_X18_init) (as := [va_rf v18, va_rf x1]) bm_X18_init q1886 q1887 rfl rfl (Nat.le_of_ble_eq_true rfl) dX4_product_38 (mt_X18_init (fx_k2v h (fun σ20 h => ?_) (fun q σ' h => h.elim)))
        refine am_astore_n (x := (some n16)) (L' := [(4, va_rf (some n16)), (0, va_rf (some a0)), (2, va_rf x1)]) dX4_product_41 rfl (Nat.le_of_ble_eq_true rfl) rfl ?_
        exact am_lss h rfl
theorem B_X4_product_42_f {G : am_G} {d : Nat} {a0 : Nat} {x1 : Option Nat} {x2 : Option Nat} {σ : am_S} {Q : Option Nat → am_S → Prop} {E : Nat → am_S → Prop} (h : f_gi σ (some a0) [4] 3 (fun v1 => f_o σ (some a0) [4] (fun b => W_X4_next G d b σ (fun σ3 => f_o σ3 (some a0) [4] (fun b => W_X4_unit G d b σ3 (fun v6 σ7 => f_o σ7 x2 [16] (fun b => W_X18_add G d b (((Int32.toUInt32 v1) % 65536).toInt32) v6 σ7 (fun σ11 => B_X4_product_7 G (d + 1) a0 x1 x2 σ11 Q E))) E))))) : B_X4_product_42 G (d + 1) a0 x1 x2 σ Q E := by
  unfold B_X4_product_42
  refine am_aloadr_n (x := some a0) dX4_product_42 rfl rfl ?_
  refine fx_gi (k := 3) (f_fldC (ref := "PondHouse$Reader") inf_X4 (by decide) q1183 (Or.inl rfl) f_fld0) dX4_product_43 h (fun v1 h => ?_)
  refine am_i2c dX4_product_46 rfl ?_
  refine am_istore_n (L' := [(6, .int (((Int32.toUInt32 v1) % 65536).toInt32)), (0, va_rf (some a0)), (2, va_rf x1), (4, va_rf x2)]) dX4_product_47 rfl (Nat.le_of_ble_eq_true rfl) rfl ?_
  refine am_aloadr_n (x := some a0) dX4_product_48 rfl rfl ?_
  refine fx_callV (Mc := m_X4_next) (as := []) (cs := [4]) (r := (some a0)) (f_clsC inf_X4 qs36 f_cls0) bm_X4_next q1396 q1398 (Nat.le_of_ble_eq_true rfl) dX4_product_49 h (fun b h => mt_X4_next (fx_k2v h (fun σ3 h => ?_) (fun q σ' h => h.elim)))
  refine am_aloadr_n (x := x2) dX4_product_52 rfl rfl ?_
  refine am_iload_n (x := (((Int32.toUInt32 v1) % 65536).toInt32)) dX4_product_53 rfl rfl ?_
  refine am_aloadr_n (x := some a0) dX4_product_54 rfl rfl ?_
  refine fx_callV (Mc := m_X4_unit) (as := []) (cs := [4]) (r := (some a0)) (f_clsC inf_X4 qs67 f_cls0) bm_X4_unit q1817 q1819 (Nat.le_of_ble_eq_true rfl) dX4_product_55 h (fun b h => mt_X4_unit (fx_k2r h (fun v6 σ7 h => ?_) (fun q σ' h => am_xout (by decide +kernel) h)))
  refine fx_callV (Mc := m_X18_add) (as := [.int (((Int32.toUInt32 v1) % 65536).toInt32), va_rf v6]) (cs := [16]) (r := x2) (f_clsC inf_X18 q1912 f_cls0) bm_X18_add q1910 q1911 (Nat.le_of_ble_eq_true rfl) dX4_product_58 h (fun b h => mt_X18_add (fx_k2v h (fun σ11 h => ?_) (fun q σ' h => h.elim)))
  refine am_goto (tgt := 7) dX4_product_61 (by decide) ?_
  exact am_lss h rfl
theorem W_X4_unit_f {G : am_G} {d : Nat} {a0 : Nat} {σ : am_S} {Q : Option Nat → am_S → Prop} {E : Nat → am_S → Prop} (h : f_gi σ (some a0) [4] 2 (fun v1 => ((¬ v1 = 4 → f_gi σ (some a0) [4] 2 (fun v2 => ((¬ v2 = 2 → f_o σ (some a0) [4] (fun b => W_X4_takesWord G d b (some (am_sk G 15)) σ (fun v3 σ4 => ((v3 = 0 → f_o σ4 (some a0) [4] (fun b => W_X4_takesWord G d b (some (am_sk G 16)) σ4 (fun v7 σ8 => ((v7 = 0 → f_o σ8 (some a0) [4] (fun b => W_X4_isSign G d b 45 σ8 (fun v11 σ12 => ((¬ v11 = 0 → B_X4_unit_123 G (d + 1) a0 v11 σ12 Q E) ∧ (v11 = 0 → f_o σ12 (some a0) [4] (fun b => W_X4_isSign G d b 40 σ12 (fun v15 σ16 => ((¬ v15 = 0 → B_X4_unit_123 G (d + 1) a0 v11 σ16 Q E) ∧ (v15 = 0 → f_o σ16 (some a0) [4] (fun b => W_X4_bad G d b σ16 (fun v19 σ20 => f_o σ20 v19 [3] (fun q => E q σ20)))))))))))) ∧ (¬ v7 = 0 → f_new G σ8 14 3 tyX16 (fun n23 σ24 => f_gr σ24 (some a0) [4] 7 (fun v25 => W_X16_init G d n23 v25 1 σ24 (fun σ27 => Q (some n23) σ27)))))))) ∧ (¬ v3 = 0 → f_new G σ4 14 3 tyX16 (fun n30 σ31 => f_gr σ31 (some a0) [4] 7 (fun v32 => W_X16_init G d n30 v32 0 σ31 (fun σ34 => Q (some n30) σ34)))))))) ∧ (v2 = 2 → f_new G σ 13 3 tyX15 (fun n37 σ38 => f_gr σ38 (some a0) [4] 7 (fun v39 => f_o σ38 (some a0) [4] (fun b => W_X4_takesName G d b σ38 (fun v40 σ41 => W_X15_init G d n37 v39 v40 σ41 (fun σ45 => Q (some n37) σ45)) E))))))) ∧ (v1 = 4 → f_gi σ (some a0) [4] 3 (fun v48 => f_o σ (some a0) [4] (fun b => W_X4_next G d b σ (fun σ50 => f_new G σ50 12 3 tyX14 (fun n53 σ54 => f_gr σ54 (some a0) [4] 7 (fun v55 => W_X14_init G d n53 v55 v48 σ54 (fun σ57 => Q (some n53) σ57)))))))))) : W_X4_unit G (d + 1) a0 σ Q E := by
  unfold W_X4_unit
  refine am_aloadr_n (x := some a0) dX4_unit_0 rfl rfl ?_
  refine fx_gi (k := 2) (f_fldC (ref := "PondHouse$Reader") inf_X4 (by decide) q1181 (Or.inl rfl) f_fld0) dX4_unit_1 h (fun v1 h => ?_)
  refine am_iconst (v := 4) dX4_unit_4 (by decide) ?_
  refine am_icmp_ne (tgt := 30) dX4_unit_5 (by decide) (fun c => ?_) (fun c => ?_)
  · have h := h.1 c
    refine am_aloadr_n (x := some a0) dX4_unit_30 rfl rfl ?_
    refine fx_gi (k := 2) (f_fldC (ref := "PondHouse$Reader") inf_X4 (by decide) q1181 (Or.inl rfl) f_fld0) dX4_unit_31 h (fun v2 h => ?_)
    refine am_iconst (v := 2) dX4_unit_34 (by decide) ?_
    refine am_icmp_ne (tgt := 54) dX4_unit_35 (by decide) (fun c => ?_) (fun c => ?_)
    · have h := h.1 c
      refine am_aloadr_n (x := some a0) dX4_unit_54 rfl rfl ?_
      refine am_ldcS (i := 15) rfl q1855 dX4_unit_55 ?_
      refine fx_callV (Mc := m_X4_takesWord) (as := [va_rf (some (am_sk G 15))]) (cs := [4]) (r := (some a0)) (f_clsC inf_X4 qs50 f_cls0) bm_X4_takesWord q1706 q1708 (Nat.le_of_ble_eq_true rfl) dX4_unit_57 h (fun b h => mt_X4_takesWord (fx_k2i h (fun v3 σ4 h => ?_) (fun q σ' h => h.elim)))
      refine am_if_eq (tgt := 76) dX4_unit_60 (by decide) (fun c => ?_) (fun c => ?_)
      · have h := h.1 c
        refine am_aloadr_n (x := some a0) dX4_unit_76 rfl rfl ?_
        refine am_ldcS (i := 16) rfl q1870 dX4_unit_77 ?_
        refine fx_callV (Mc := m_X4_takesWord) (as := [va_rf (some (am_sk G 16))]) (cs := [4]) (r := (some a0)) (f_clsC inf_X4 qs50 f_cls0) bm_X4_takesWord q1706 q1708 (Nat.le_of_ble_eq_true rfl) dX4_unit_79 h (fun b h => mt_X4_takesWord (fx_k2i h (fun v7 σ8 h => ?_) (fun q σ' h => h.elim)))
        refine am_if_eq (tgt := 98) dX4_unit_82 (by decide) (fun c => ?_) (fun c => ?_)
        · have h := h.1 c
          refine am_aloadr_n (x := some a0) dX4_unit_98 rfl rfl ?_
          refine am_bipush (v := 45) dX4_unit_99 (by decide) ?_
          refine fx_callV (Mc := m_X4_isSign) (as := [.int 45]) (cs := [4]) (r := (some a0)) (f_clsC inf_X4 qs55 f_cls0) bm_X4_isSign q1733 q1735 (Nat.le_of_ble_eq_true rfl) dX4_unit_101 h (fun b h => mt_X4_isSign (fx_k2i h (fun v11 σ12 h => ?_) (fun q σ' h => h.elim)))
          refine am_istore_n (L' := [(2, .int v11), (0, va_rf (some a0))]) dX4_unit_104 rfl (Nat.le_of_ble_eq_true rfl) rfl ?_
          refine am_iload_n (x := v11) dX4_unit_105 rfl rfl ?_
          refine am_if_ne (tgt := 123) dX4_unit_106 (by decide) (fun c => ?_) (fun c => ?_)
          · have h := h.1 c
            exact am_lss h rfl
          · have h := h.2 c
            refine am_aloadr_n (x := some a0) dX4_unit_109 rfl rfl ?_
            refine am_bipush (v := 40) dX4_unit_110 (by decide) ?_
            refine fx_callV (Mc := m_X4_isSign) (as := [.int 40]) (cs := [4]) (r := (some a0)) (f_clsC inf_X4 qs55 f_cls0) bm_X4_isSign q1733 q1735 (Nat.le_of_ble_eq_true rfl) dX4_unit_112 h (fun b h => mt_X4_isSign (fx_k2i h (fun v15 σ16 h => ?_) (fun q σ' h => h.elim)))
            refine am_if_ne (tgt := 123) dX4_unit_115 (by decide) (fun c => ?_) (fun c => ?_)
            · have h := h.1 c
              exact am_lss h rfl
            · have h := h.2 c
              refine am_aloadr_n (x := some a0) dX4_unit_118 rfl rfl ?_
              refine fx_callV (Mc := m_X4_bad) (as := []) (cs := [4]) (r := (some a0)) (f_clsC inf_X4 qs46 f_cls0) bm_X4_bad q1682 q1684 (Nat.le_of_ble_eq_true rfl) dX4_unit_119 h (fun b h => mt_X4_bad (fx_k2r h (fun v19 σ20 h => ?_) (fun q σ' h => h.elim)))
              exact fx_throw (cs := [3]) dX4_unit_122 h (fun q h => am_xout (by decide +kernel) h)
        · have h := h.2 c
          refine fx_new inf_X16 q1856 q1857 q194 dX4_unit_85 h (fun n23 σ24 h => ?_)
          refine am_dup dX4_unit_88 (am_rf_cat _) ?_
          refine am_aloadr_n (x := some a0) dX4_unit_89 rfl rfl ?_
          refine fx_gr (k := 7) (f_fldC (ref := "PondHouse$Reader") inf_X4 (by decide) q1187 (Or.inl rfl) f_fld0) dX4_unit_90 h (fun v25 h => ?_)
          refine am_iconst (v := 1) dX4_unit_93 (by decide) ?_
          refine fx_callI (Mc := m_X16_init) (as := [va_rf v25, .int 1]) bm_X16_init q1858 q1859 rfl rfl (Nat.le_of_ble_eq_true rfl) dX4_unit_94 (mt_X16_init (fx_k2v h (fun σ27 h => ?_) (fun q σ' h => h.elim)))
          exact fx_aret rfl rfl dX4_unit_97 h
      · have h := h.2 c
        refine fx_new inf_X16 q1856 q1857 q194 dX4_unit_63 h (fun n30 σ31 h => ?_)
        refine am_dup dX4_unit_66 (am_rf_cat _) ?_
        refine am_aloadr_n (x := some a0) dX4_unit_67 rfl rfl ?_
        refine fx_gr (k := 7) (f_fldC (ref := "PondHouse$Reader") inf_X4 (by decide) q1187 (Or.inl rfl) f_fld0) dX4_unit_68 h (fun v32 h => ?_)
        refine am_iconst (v := 0) dX4_unit_71 (by decide) ?_
        refine fx_callI (Mc := m_X16_init) (as := [va_rf v32, .int 0]) bm_X16_init q1858 q1859 rfl rfl (Nat.le_of_ble_eq_true rfl) dX4_unit_72 (mt_X16_init (fx_k2v h (fun σ34 h => ?_) (fun q σ' h => h.elim)))
        exact fx_aret rfl rfl dX4_unit_75 h
    · have h := h.2 c
      refine fx_new inf_X15 q1840 q1841 q193 dX4_unit_38 h (fun n37 σ38 h => ?_)
      refine am_dup dX4_unit_41 (am_rf_cat _) ?_
      refine am_aloadr_n (x := some a0) dX4_unit_42 rfl rfl ?_
      refine fx_gr (k := 7) (f_fldC (ref := "PondHouse$Reader") inf_X4 (by decide) q1187 (Or.inl rfl) f_fld0) dX4_unit_43 h (fun v39 h => ?_)
      refine am_aloadr_n (x := some a0) dX4_unit_46 rfl rfl ?_
      refine fx_callV (Mc := m_X4_takesName) (as := []) (cs := [4]) (r := (some a0)) (f_clsC inf_X4 qs44 f_cls0) bm_X4_takesName q1842 q1676 (Nat.le_of_ble_eq_true rfl) dX4_unit_47 h (fun b h => mt_X4_takesName (fx_k2i h (fun v40 σ41 h => ?_) (fun q σ' h => am_xout (by decide +kernel) h)))
      refine fx_callI (Mc := m_X15_init) (as := [va_rf v39, .int v40]) bm_X15_init q1843 q1844 rfl rfl (Nat.le_of_ble_eq_true rfl) dX4_unit_50 (mt_X15_init (fx_k2v h (fun σ45 h => ?_) (fun q σ' h => h.elim)))
      exact fx_aret rfl rfl dX4_unit_53 h
  · have h := h.2 c
    refine am_aloadr_n (x := some a0) dX4_unit_8 rfl rfl ?_
    refine fx_gi (k := 3) (f_fldC (ref := "PondHouse$Reader") inf_X4 (by decide) q1183 (Or.inl rfl) f_fld0) dX4_unit_9 h (fun v48 h => ?_)
    refine am_istore_n (L' := [(2, .int v48), (0, va_rf (some a0))]) dX4_unit_12 rfl (Nat.le_of_ble_eq_true rfl) rfl ?_
    refine am_aloadr_n (x := some a0) dX4_unit_13 rfl rfl ?_
    refine fx_callV (Mc := m_X4_next) (as := []) (cs := [4]) (r := (some a0)) (f_clsC inf_X4 qs36 f_cls0) bm_X4_next q1396 q1398 (Nat.le_of_ble_eq_true rfl) dX4_unit_14 h (fun b h => mt_X4_next (fx_k2v h (fun σ50 h => ?_) (fun q σ' h => h.elim)))
    refine fx_new inf_X14 q1821 q1822 q192 dX4_unit_17 h (fun n53 σ54 h => ?_)
    refine am_dup dX4_unit_20 (am_rf_cat _) ?_
    refine am_aloadr_n (x := some a0) dX4_unit_21 rfl rfl ?_
    refine fx_gr (k := 7) (f_fldC (ref := "PondHouse$Reader") inf_X4 (by decide) q1187 (Or.inl rfl) f_fld0) dX4_unit_22 h (fun v55 h => ?_)
    refine am_iload_n (x := v48) dX4_unit_25 rfl rfl ?_
    refine fx_callI (Mc := m_X14_init) (as := [va_rf v55, .int v48]) bm_X14_init q1823 q1824 rfl rfl (Nat.le_of_ble_eq_true rfl) dX4_unit_26 (mt_X14_init (fx_k2v h (fun σ57 h => ?_) (fun q σ' h => h.elim)))
    exact fx_aret rfl rfl dX4_unit_29 h
theorem B_X4_unit_123_f {G : am_G} {d : Nat} {a0 : Nat} {x1 : Int32} {σ : am_S} {Q : Option Nat → am_S → Prop} {E : Nat → am_S → Prop} (h : f_o σ (some a0) [4] (fun b => W_X4_opens G d b σ (fun σ2 => ((x1 = 0 → f_o σ2 (some a0) [4] (fun b => W_X4_worth G d b σ2 (fun v5 σ6 => ((¬ x1 = 0 → B_X4_unit_153 G (d + 1) a0 x1 v5 σ6 Q E) ∧ (x1 = 0 → f_o σ6 (some a0) [4] (fun b => W_X4_needs G d b 41 σ6 (fun σ10 => B_X4_unit_153 G (d + 1) a0 x1 v5 σ10 Q E) E)))) E)) ∧ (¬ x1 = 0 → f_o σ2 (some a0) [4] (fun b => W_X4_unit G d b σ2 (fun v13 σ14 => ((¬ x1 = 0 → B_X4_unit_153 G (d + 1) a0 x1 v13 σ14 Q E) ∧ (x1 = 0 → f_o σ14 (some a0) [4] (fun b => W_X4_needs G d b 41 σ14 (fun σ18 => B_X4_unit_153 G (d + 1) a0 x1 v13 σ18 Q E) E)))) E)))) E)) : B_X4_unit_123 G (d + 1) a0 x1 σ Q E := by
  unfold B_X4_unit_123
  refine am_aloadr_n (x := some a0) dX4_unit_123 rfl rfl ?_
  refine fx_callV (Mc := m_X4_opens) (as := []) (cs := [4]) (r := (some a0)) (f_clsC inf_X4 qs63 f_cls0) bm_X4_opens q1799 q1801 (Nat.le_of_ble_eq_true rfl) dX4_unit_124 h (fun b h => mt_X4_opens (fx_k2v h (fun σ2 h => ?_) (fun q σ' h => am_xout (by decide +kernel) h)))
  refine am_iload_n (x := x1) dX4_unit_127 rfl rfl ?_
  refine am_if_eq (tgt := 138) dX4_unit_128 (by decide) (fun c => ?_) (fun c => ?_)
  · have h := h.1 c
    refine am_aloadr_n (x := some a0) dX4_unit_138 rfl rfl ?_
    refine fx_callV (Mc := m_X4_worth) (as := []) (cs := [4]) (r := (some a0)) (f_clsC inf_X4 qs64 f_cls0) bm_X4_worth q1805 q1807 (Nat.le_of_ble_eq_true rfl) dX4_unit_139 h (fun b h => mt_X4_worth (fx_k2r h (fun v5 σ6 h => ?_) (fun q σ' h => am_xout (by decide +kernel) h)))
    refine am_astore_n (x := v5) (L' := [(4, va_rf v5), (0, va_rf (some a0)), (2, .int x1)]) dX4_unit_142 rfl (Nat.le_of_ble_eq_true rfl) rfl ?_
    refine am_iload_n (x := x1) dX4_unit_143 rfl rfl ?_
    refine am_if_ne (tgt := 153) dX4_unit_144 (by decide) (fun c => ?_) (fun c => ?_)
    · have h := h.1 c
      exact am_lss h rfl
    · have h := h.2 c
      refine am_aloadr_n (x := some a0) dX4_unit_147 rfl rfl ?_
      refine am_bipush (v := 41) dX4_unit_148 (by decide) ?_
      refine fx_callV (Mc := m_X4_needs) (as := [.int 41]) (cs := [4]) (r := (some a0)) (f_clsC inf_X4 qs53 f_cls0) bm_X4_needs q1725 q1727 (Nat.le_of_ble_eq_true rfl) dX4_unit_150 h (fun b h => mt_X4_needs (fx_k2v h (fun σ10 h => ?_) (fun q σ' h => am_xout (by decide +kernel) h)))
      exact am_lss h rfl
  · have h := h.2 c
    refine am_aloadr_n (x := some a0) dX4_unit_131 rfl rfl ?_
    refine fx_callV (Mc := m_X4_unit) (as := []) (cs := [4]) (r := (some a0)) (f_clsC inf_X4 qs67 f_cls0) bm_X4_unit q1817 q1819 (Nat.le_of_ble_eq_true rfl) dX4_unit_132 h (fun b h => mt_X4_unit (fx_k2r h (fun v13 σ14 h => ?_) (fun q σ' h => am_xout (by decide +kernel) h)))
    refine am_goto (tgt := 142) dX4_unit_135 (by decide) ?_
    refine am_astore_n (x := v13) (L' := [(4, va_rf v13), (0, va_rf (some a0)), (2, .int x1)]) dX4_unit_142 rfl (Nat.le_of_ble_eq_true rfl) rfl ?_
    refine am_iload_n (x := x1) dX4_unit_143 rfl rfl ?_
    refine am_if_ne (tgt := 153) dX4_unit_144 (by decide) (fun c => ?_) (fun c => ?_)
    · have h := h.1 c
      exact am_lss h rfl
    · have h := h.2 c
      refine am_aloadr_n (x := some a0) dX4_unit_147 rfl rfl ?_
      refine am_bipush (v := 41) dX4_unit_148 (by decide) ?_
      refine fx_callV (Mc := m_X4_needs) (as := [.int 41]) (cs := [4]) (r := (some a0)) (f_clsC inf_X4 qs53 f_cls0) bm_X4_needs q1725 q1727 (Nat.le_of_ble_eq_true rfl) dX4_unit_150 h (fun b h => mt_X4_needs (fx_k2v h (fun σ18 h => ?_) (fun q σ' h => am_xout (by decide +kernel) h)))
      exact am_lss h rfl
theorem B_X4_unit_153_f {G : am_G} {d : Nat} {a0 : Nat} {x1 : Int32} {x2 : Option Nat} {σ : am_S} {Q : Option Nat → am_S → Prop} {E : Nat → am_S → Prop} (h : f_gi σ (some a0) [4] 4 (fun v1 => f_p σ (some a0) [4] 4 (.int (v1 - 1)) (fun σ2 => ((x1 = 0 → Q x2 σ2) ∧ (¬ x1 = 0 → f_new G σ2 15 3 tyX17 (fun n3 σ4 => f_gr σ4 (some a0) [4] 7 (fun v5 => W_X17_init G d n3 v5 x2 σ4 (fun σ7 => Q (some n3) σ7)))))))) : B_X4_unit_153 G (d + 1) a0 x1 x2 σ Q E := by
  unfold B_X4_unit_153
  refine am_aloadr_n (x := some a0) dX4_unit_153 rfl rfl ?_
  refine am_dup dX4_unit_154 (am_rf_cat _) ?_
  refine fx_gi (k := 4) (f_fldC (ref := "PondHouse$Reader") inf_X4 (by decide) q1184 (Or.inl rfl) f_fld0) dX4_unit_155 h (fun v1 h => ?_)
  refine am_iconst (v := 1) dX4_unit_158 (by decide) ?_
  refine am_isub dX4_unit_159 ?_
  refine fx_p (k := 4) (v := .int (v1 - 1)) (f_putC inf_X4 (by decide) rfl rfl q1184 (Or.inl rfl) f_put0) dX4_unit_160 h (fun σ2 h => ?_)
  refine am_iload_n (x := x1) dX4_unit_163 rfl rfl ?_
  refine am_if_eq (tgt := 182) dX4_unit_164 (by decide) (fun c => ?_) (fun c => ?_)
  · have h := h.1 c
    refine am_aloadr_n (x := x2) dX4_unit_182 rfl rfl ?_
    exact fx_aret rfl rfl dX4_unit_183 h
  · have h := h.2 c
    refine fx_new inf_X17 q1871 q1872 q195 dX4_unit_167 h (fun n3 σ4 h => ?_)
    refine am_dup dX4_unit_170 (am_rf_cat _) ?_
    refine am_aloadr_n (x := some a0) dX4_unit_171 rfl rfl ?_
    refine fx_gr (k := 7) (f_fldC (ref := "PondHouse$Reader") inf_X4 (by decide) q1187 (Or.inl rfl) f_fld0) dX4_unit_172 h (fun v5 h => ?_)
    refine am_aloadr_n (x := x2) dX4_unit_175 rfl rfl ?_
    refine fx_callI (Mc := m_X17_init) (as := [va_rf v5, va_rf x2]) bm_X17_init q1873 q1874 rfl rfl (Nat.le_of_ble_eq_true rfl) dX4_unit_176 (mt_X17_init (fx_k2v h (fun σ7 h => ?_) (fun q σ' h => h.elim)))
    refine am_goto (tgt := 183) dX4_unit_179 (by decide) ?_
    exact fx_aret rfl rfl dX4_unit_183 h
theorem W_X4_plain_f {G : am_G} {d : Nat} {a0 : Nat} {σ : am_S} {Q : Option Nat → am_S → Prop} {E : Nat → am_S → Prop} (h : f_gi σ (some a0) [4] 2 (fun v1 => ((¬ v1 = 2 → f_o σ (some a0) [4] (fun b => W_X4_takesWord G d b (some (am_sk G 7)) σ (fun v2 σ3 => ((v2 = 0 → f_o σ3 (some a0) [4] (fun b => W_X4_takesWord G d b (some (am_sk G 8)) σ3 (fun v6 σ7 => ((v6 = 0 → f_o σ7 (some a0) [4] (fun b => W_X4_takesWord G d b (some (am_sk G 9)) σ7 (fun v10 σ11 => ((v10 = 0 → f_o σ11 (some a0) [4] (fun b => W_X4_takesWord G d b (some (am_sk G 12)) σ11 (fun v14 σ15 => ((v14 = 0 → f_o σ15 (some a0) [4] (fun b => W_X4_takesWord G d b (some (am_sk G 10)) σ15 (fun v18 σ19 => ((v18 = 0 → f_o σ19 (some a0) [4] (fun b => W_X4_next G d b σ19 (fun σ23 => f_o σ23 (some a0) [4] (fun b => W_X4_takesName G d b σ23 (fun v26 σ27 => f_new G σ27 19 4 tyX21 (fun n30 σ31 => f_gr σ31 (some a0) [4] 7 (fun v32 => f_o σ31 (some a0) [4] (fun b => W_X4_takesName G d b σ31 (fun v33 σ34 => W_X21_init G d n30 v32 v26 v33 σ34 (fun σ38 => Q (some n30) σ38)) E)))) E)))) ∧ (¬ v18 = 0 → f_new G σ19 19 4 tyX21 (fun n41 σ42 => f_gr σ42 (some a0) [4] 7 (fun v43 => f_o σ42 (some a0) [4] (fun b => W_X4_takesName G d b σ42 (fun v44 σ45 => W_X21_init G d n41 v43 (-1) v44 σ45 (fun σ49 => Q (some n41) σ49)) E)))))))) ∧ (¬ v14 = 0 → f_new G σ15 20 2 tyX22 (fun n52 σ53 => f_gr σ53 (some a0) [4] 7 (fun v54 => W_X22_init G d n52 v54 σ53 (fun σ56 => Q (some n52) σ56)))))))) ∧ (¬ v10 = 0 → f_new G σ11 19 4 tyX21 (fun n59 σ60 => f_gr σ60 (some a0) [4] 7 (fun v61 => W_X21_init G d n59 v61 (-1) (-1) σ60 (fun σ63 => Q (some n59) σ63)))))))) ∧ (¬ v6 = 0 → f_new G σ7 18 4 tyX20 (fun n66 σ67 => f_gr σ67 (some a0) [4] 7 (fun v68 => f_o σ67 (some a0) [4] (fun b => W_X4_worth G d b σ67 (fun v69 σ70 => W_X20_init G d n66 v68 v69 1 σ70 (fun σ74 => Q (some n66) σ74)) E)))))))) ∧ (¬ v2 = 0 → f_new G σ3 18 4 tyX20 (fun n77 σ78 => f_gr σ78 (some a0) [4] 7 (fun v79 => f_o σ78 (some a0) [4] (fun b => W_X4_worth G d b σ78 (fun v80 σ81 => W_X20_init G d n77 v79 v80 0 σ81 (fun σ85 => Q (some n77) σ85)) E)))))))) ∧ (v1 = 2 → f_o σ (some a0) [4] (fun b => W_X4_takesName G d b σ (fun v88 σ89 => f_o σ89 (some a0) [4] (fun b => W_X4_needs G d b 61 σ89 (fun σ93 => f_new G σ93 17 4 tyX19 (fun n96 σ97 => f_gr σ97 (some a0) [4] 7 (fun v98 => f_o σ97 (some a0) [4] (fun b => W_X4_worth G d b σ97 (fun v99 σ100 => W_X19_init G d n96 v98 v88 v99 σ100 (fun σ104 => Q (some n96) σ104)) E)))) E)) E))))) : W_X4_plain G (d + 1) a0 σ Q E := by
  unfold W_X4_plain
  refine am_aloadr_n (x := some a0) dX4_plain_0 rfl rfl ?_
  refine fx_gi (k := 2) (f_fldC (ref := "PondHouse$Reader") inf_X4 (by decide) q1181 (Or.inl rfl) f_fld0) dX4_plain_1 h (fun v1 h => ?_)
  refine am_iconst (v := 2) dX4_plain_4 (by decide) ?_
  refine am_icmp_ne (tgt := 36) dX4_plain_5 (by decide) (fun c => ?_) (fun c => ?_)
  · have h := h.1 c
    refine am_aloadr_n (x := some a0) dX4_plain_36 rfl rfl ?_
    refine am_ldcS (i := 7) rfl q1788 dX4_plain_37 ?_
    refine fx_callV (Mc := m_X4_takesWord) (as := [va_rf (some (am_sk G 7))]) (cs := [4]) (r := (some a0)) (f_clsC inf_X4 qs50 f_cls0) bm_X4_takesWord q1706 q1708 (Nat.le_of_ble_eq_true rfl) dX4_plain_39 h (fun b h => mt_X4_takesWord (fx_k2i h (fun v2 σ3 h => ?_) (fun q σ' h => h.elim)))
    refine am_if_eq (tgt := 62) dX4_plain_42 (by decide) (fun c => ?_) (fun c => ?_)
    · have h := h.1 c
      refine am_aloadr_n (x := some a0) dX4_plain_62 rfl rfl ?_
      refine am_ldcS (i := 8) rfl q1789 dX4_plain_63 ?_
      refine fx_callV (Mc := m_X4_takesWord) (as := [va_rf (some (am_sk G 8))]) (cs := [4]) (r := (some a0)) (f_clsC inf_X4 qs50 f_cls0) bm_X4_takesWord q1706 q1708 (Nat.le_of_ble_eq_true rfl) dX4_plain_65 h (fun b h => mt_X4_takesWord (fx_k2i h (fun v6 σ7 h => ?_) (fun q σ' h => h.elim)))
      refine am_if_eq (tgt := 88) dX4_plain_68 (by decide) (fun c => ?_) (fun c => ?_)
      · have h := h.1 c
        refine am_aloadr_n (x := some a0) dX4_plain_88 rfl rfl ?_
        refine am_ldcS (i := 9) rfl q1790 dX4_plain_89 ?_
        refine fx_callV (Mc := m_X4_takesWord) (as := [va_rf (some (am_sk G 9))]) (cs := [4]) (r := (some a0)) (f_clsC inf_X4 qs50 f_cls0) bm_X4_takesWord q1706 q1708 (Nat.le_of_ble_eq_true rfl) dX4_plain_91 h (fun b h => mt_X4_takesWord (fx_k2i h (fun v10 σ11 h => ?_) (fun q σ' h => h.elim)))
        refine am_if_eq (tgt := 111) dX4_plain_94 (by decide) (fun c => ?_) (fun c => ?_)
        · have h := h.1 c
          refine am_aloadr_n (x := some a0) dX4_plain_111 rfl rfl ?_
          refine am_ldcS (i := 12) rfl q1793 dX4_plain_112 ?_
          refine fx_callV (Mc := m_X4_takesWord) (as := [va_rf (some (am_sk G 12))]) (cs := [4]) (r := (some a0)) (f_clsC inf_X4 qs50 f_cls0) bm_X4_takesWord q1706 q1708 (Nat.le_of_ble_eq_true rfl) dX4_plain_114 h (fun b h => mt_X4_takesWord (fx_k2i h (fun v14 σ15 h => ?_) (fun q σ' h => h.elim)))
          refine am_if_eq (tgt := 132) dX4_plain_117 (by decide) (fun c => ?_) (fun c => ?_)
          · have h := h.1 c
            refine am_aloadr_n (x := some a0) dX4_plain_132 rfl rfl ?_
            refine am_ldcS (i := 10) rfl q1791 dX4_plain_133 ?_
            refine fx_callV (Mc := m_X4_takesWord) (as := [va_rf (some (am_sk G 10))]) (cs := [4]) (r := (some a0)) (f_clsC inf_X4 qs50 f_cls0) bm_X4_takesWord q1706 q1708 (Nat.le_of_ble_eq_true rfl) dX4_plain_135 h (fun b h => mt_X4_takesWord (fx_k2i h (fun v18 σ19 h => ?_) (fun q σ' h => h.elim)))
            refine am_if_eq (tgt := 158) dX4_plain_138 (by decide) (fun c => ?_) (fun c => ?_)
            · have h := h.1 c
              refine am_aloadr_n (x := some a0) dX4_plain_158 rfl rfl ?_
              refine fx_callV (Mc := m_X4_next) (as := []) (cs := [4]) (r := (some a0)) (f_clsC inf_X4 qs36 f_cls0) bm_X4_next q1396 q1398 (Nat.le_of_ble_eq_true rfl) dX4_plain_159 h (fun b h => mt_X4_next (fx_k2v h (fun σ23 h => ?_) (fun q σ' h => h.elim)))
              refine am_aloadr_n (x := some a0) dX4_plain_162 rfl rfl ?_
              refine fx_callV (Mc := m_X4_takesName) (as := []) (cs := [4]) (r := (some a0)) (f_clsC inf_X4 qs44 f_cls0) bm_X4_takesName q1842 q1676 (Nat.le_of_ble_eq_true rfl) dX4_plain_163 h (fun b h => mt_X4_takesName (fx_k2i h (fun v26 σ27 h => ?_) (fun q σ' h => am_xout (by decide +kernel) h)))
              refine am_istore_n (L' := [(2, .int v26), (0, va_rf (some a0))]) dX4_plain_166 rfl (Nat.le_of_ble_eq_true rfl) rfl ?_
              refine fx_new inf_X21 q1987 q1988 q199 dX4_plain_167 h (fun n30 σ31 h => ?_)
              refine am_dup dX4_plain_170 (am_rf_cat _) ?_
              refine am_aloadr_n (x := some a0) dX4_plain_171 rfl rfl ?_
              refine fx_gr (k := 7) (f_fldC (ref := "PondHouse$Reader") inf_X4 (by decide) q1187 (Or.inl rfl) f_fld0) dX4_plain_172 h (fun v32 h => ?_)
              refine am_iload_n (x := v26) dX4_plain_175 rfl rfl ?_
              refine am_aloadr_n (x := some a0) dX4_plain_176 rfl rfl ?_
              refine fx_callV (Mc := m_X4_takesName) (as := []) (cs := [4]) (r := (some a0)) (f_clsC inf_X4 qs44 f_cls0) bm_X4_takesName q1842 q1676 (Nat.le_of_ble_eq_true rfl) dX4_plain_177 h (fun b h => mt_X4_takesName (fx_k2i h (fun v33 σ34 h => ?_) (fun q σ' h => am_xout (by decide +kernel) h)))
              refine fx_callI (Mc := m_X21_init) (as := [va_rf v32, .int v26, .int v33]) bm_X21_init q1989 q1990 rfl rfl (Nat.le_of_ble_eq_true rfl) dX4_plain_180 (mt_X21_init (fx_k2v h (fun σ38 h => ?_) (fun q σ' h => h.elim)))
              exact fx_aret rfl rfl dX4_plain_183 h
            · have h := h.2 c
              refine fx_new inf_X21 q1987 q1988 q199 dX4_plain_141 h (fun n41 σ42 h => ?_)
              refine am_dup dX4_plain_144 (am_rf_cat _) ?_
              refine am_aloadr_n (x := some a0) dX4_plain_145 rfl rfl ?_
              refine fx_gr (k := 7) (f_fldC (ref := "PondHouse$Reader") inf_X4 (by decide) q1187 (Or.inl rfl) f_fld0) dX4_plain_146 h (fun v43 h => ?_)
              refine am_iconst (v := (-1)) dX4_plain_149 (by decide) ?_
              refine am_aloadr_n (x := some a0) dX4_plain_150 rfl rfl ?_
              refine fx_callV (Mc := m_X4_takesName) (as := []) (cs := [4]) (r := (some a0)) (f_clsC inf_X4 qs44 f_cls0) bm_X4_takesName q1842 q1676 (Nat.le_of_ble_eq_true rfl) dX4_plain_151 h (fun b h => mt_X4_takesName (fx_k2i h (fun v44 σ45 h => ?_) (fun q σ' h => am_xout (by decide +kernel) h)))
              refine fx_callI (Mc := m_X21_init) (as := [va_rf v43, .int (-1), .int v44]) bm_X21_init q1989 q1990 rfl rfl (Nat.le_of_ble_eq_true rfl) dX4_plain_154 (mt_X21_init (fx_k2v h (fun σ49 h => ?_) (fun q σ' h => h.elim)))
              exact fx_aret rfl rfl dX4_plain_157 h
          · have h := h.2 c
            refine fx_new inf_X22 q2004 q2005 q200 dX4_plain_120 h (fun n52 σ53 h => ?_)
            refine am_dup dX4_plain_123 (am_rf_cat _) ?_
            refine am_aloadr_n (x := some a0) dX4_plain_124 rfl rfl ?_
            refine fx_gr (k := 7) (f_fldC (ref := "PondHouse$Reader") inf_X4 (by decide) q1187 (Or.inl rfl) f_fld0) dX4_plain_125 h (fun v54 h => ?_)
            refine fx_callIN (Mc := m_X22_init) (as := [va_rf v54]) bm_X22_init q2006 q2007 rfl rfl (Nat.le_of_ble_eq_true rfl) dX4_plain_128 (mt_X22_init (fx_k2v h (fun σ56 h => ?_) (fun q σ' h => h.elim)))
            exact fx_aret rfl rfl dX4_plain_131 h
        · have h := h.2 c
          refine fx_new inf_X21 q1987 q1988 q199 dX4_plain_97 h (fun n59 σ60 h => ?_)
          refine am_dup dX4_plain_100 (am_rf_cat _) ?_
          refine am_aloadr_n (x := some a0) dX4_plain_101 rfl rfl ?_
          refine fx_gr (k := 7) (f_fldC (ref := "PondHouse$Reader") inf_X4 (by decide) q1187 (Or.inl rfl) f_fld0) dX4_plain_102 h (fun v61 h => ?_)
          refine am_iconst (v := (-1)) dX4_plain_105 (by decide) ?_
          refine am_iconst (v := (-1)) dX4_plain_106 (by decide) ?_
          refine fx_callI (Mc := m_X21_init) (as := [va_rf v61, .int (-1), .int (-1)]) bm_X21_init q1989 q1990 rfl rfl (Nat.le_of_ble_eq_true rfl) dX4_plain_107 (mt_X21_init (fx_k2v h (fun σ63 h => ?_) (fun q σ' h => h.elim)))
          exact fx_aret rfl rfl dX4_plain_110 h
      · have h := h.2 c
        refine fx_new inf_X20 q1970 q1971 q198 dX4_plain_71 h (fun n66 σ67 h => ?_)
        refine am_dup dX4_plain_74 (am_rf_cat _) ?_
        refine am_aloadr_n (x := some a0) dX4_plain_75 rfl rfl ?_
        refine fx_gr (k := 7) (f_fldC (ref := "PondHouse$Reader") inf_X4 (by decide) q1187 (Or.inl rfl) f_fld0) dX4_plain_76 h (fun v68 h => ?_)
        refine am_aloadr_n (x := some a0) dX4_plain_79 rfl rfl ?_
        refine fx_callV (Mc := m_X4_worth) (as := []) (cs := [4]) (r := (some a0)) (f_clsC inf_X4 qs64 f_cls0) bm_X4_worth q1805 q1807 (Nat.le_of_ble_eq_true rfl) dX4_plain_80 h (fun b h => mt_X4_worth (fx_k2r h (fun v69 σ70 h => ?_) (fun q σ' h => am_xout (by decide +kernel) h)))
        refine am_iconst (v := 1) dX4_plain_83 (by decide) ?_
        refine fx_callI (Mc := m_X20_init) (as := [va_rf v68, va_rf v69, .int 1]) bm_X20_init q1972 q1973 rfl rfl (Nat.le_of_ble_eq_true rfl) dX4_plain_84 (mt_X20_init (fx_k2v h (fun σ74 h => ?_) (fun q σ' h => h.elim)))
        exact fx_aret rfl rfl dX4_plain_87 h
    · have h := h.2 c
      refine fx_new inf_X20 q1970 q1971 q198 dX4_plain_45 h (fun n77 σ78 h => ?_)
      refine am_dup dX4_plain_48 (am_rf_cat _) ?_
      refine am_aloadr_n (x := some a0) dX4_plain_49 rfl rfl ?_
      refine fx_gr (k := 7) (f_fldC (ref := "PondHouse$Reader") inf_X4 (by decide) q1187 (Or.inl rfl) f_fld0) dX4_plain_50 h (fun v79 h => ?_)
      refine am_aloadr_n (x := some a0) dX4_plain_53 rfl rfl ?_
      refine fx_callV (Mc := m_X4_worth) (as := []) (cs := [4]) (r := (some a0)) (f_clsC inf_X4 qs64 f_cls0) bm_X4_worth q1805 q1807 (Nat.le_of_ble_eq_true rfl) dX4_plain_54 h (fun b h => mt_X4_worth (fx_k2r h (fun v80 σ81 h => ?_) (fun q σ' h => am_xout (by decide +kernel) h)))
      refine am_iconst (v := 0) dX4_plain_57 (by decide) ?_
      refine fx_callI (Mc := m_X20_init) (as := [va_rf v79, va_rf v80, .int 0]) bm_X20_init q1972 q1973 rfl rfl (Nat.le_of_ble_eq_true rfl) dX4_plain_58 (mt_X20_init (fx_k2v h (fun σ85 h => ?_) (fun q σ' h => h.elim)))
      exact fx_aret rfl rfl dX4_plain_61 h
  · have h := h.2 c
    refine am_aloadr_n (x := some a0) dX4_plain_8 rfl rfl ?_
    refine fx_callV (Mc := m_X4_takesName) (as := []) (cs := [4]) (r := (some a0)) (f_clsC inf_X4 qs44 f_cls0) bm_X4_takesName q1842 q1676 (Nat.le_of_ble_eq_true rfl) dX4_plain_9 h (fun b h => mt_X4_takesName (fx_k2i h (fun v88 σ89 h => ?_) (fun q σ' h => am_xout (by decide +kernel) h)))
    refine am_istore_n (L' := [(2, .int v88), (0, va_rf (some a0))]) dX4_plain_12 rfl (Nat.le_of_ble_eq_true rfl) rfl ?_
    refine am_aloadr_n (x := some a0) dX4_plain_13 rfl rfl ?_
    refine am_bipush (v := 61) dX4_plain_14 (by decide) ?_
    refine fx_callV (Mc := m_X4_needs) (as := [.int 61]) (cs := [4]) (r := (some a0)) (f_clsC inf_X4 qs53 f_cls0) bm_X4_needs q1725 q1727 (Nat.le_of_ble_eq_true rfl) dX4_plain_16 h (fun b h => mt_X4_needs (fx_k2v h (fun σ93 h => ?_) (fun q σ' h => am_xout (by decide +kernel) h)))
    refine fx_new inf_X19 q1953 q1954 q197 dX4_plain_19 h (fun n96 σ97 h => ?_)
    refine am_dup dX4_plain_22 (am_rf_cat _) ?_
    refine am_aloadr_n (x := some a0) dX4_plain_23 rfl rfl ?_
    refine fx_gr (k := 7) (f_fldC (ref := "PondHouse$Reader") inf_X4 (by decide) q1187 (Or.inl rfl) f_fld0) dX4_plain_24 h (fun v98 h => ?_)
    refine am_iload_n (x := v88) dX4_plain_27 rfl rfl ?_
    refine am_aloadr_n (x := some a0) dX4_plain_28 rfl rfl ?_
    refine fx_callV (Mc := m_X4_worth) (as := []) (cs := [4]) (r := (some a0)) (f_clsC inf_X4 qs64 f_cls0) bm_X4_worth q1805 q1807 (Nat.le_of_ble_eq_true rfl) dX4_plain_29 h (fun b h => mt_X4_worth (fx_k2r h (fun v99 σ100 h => ?_) (fun q σ' h => am_xout (by decide +kernel) h)))
    refine fx_callI (Mc := m_X19_init) (as := [va_rf v98, .int v88, va_rf v99]) bm_X19_init q1955 q1956 rfl rfl (Nat.le_of_ble_eq_true rfl) dX4_plain_32 (mt_X19_init (fx_k2v h (fun σ104 h => ?_) (fun q σ' h => h.elim)))
    exact fx_aret rfl rfl dX4_plain_35 h
