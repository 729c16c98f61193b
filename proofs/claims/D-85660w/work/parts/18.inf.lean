set_option maxRecDepth 100000
/-! ===== the classes of the abstract machine, one by one ===== -/
theorem inf_X0 : am_inf 0 RX0 TX0 45 tyX0 := ⟨rfl, in_X0, tyX0_ok, fun a ha b hb h => Or.inl (nmX0 a ha b hb h)⟩
theorem inf_X1 : am_inf 1 RX1 TX1 5 tyX1 := ⟨rfl, in_X1, tyX1_ok, fun a ha b hb h => Or.inl (nmX1 a ha b hb h)⟩
theorem inf_X2 : am_inf 2 RX2 TX2 8 tyX2 := ⟨rfl, in_X2, tyX2_ok, fun a ha b hb h => Or.inl (nmX2 a ha b hb h)⟩
theorem inf_X3 : am_inf 3 RX3 TX3 8 tyX3 := ⟨rfl, in_X3, tyX3_ok, fun a ha b hb h => Or.inl (nmX3 a ha b hb h)⟩
theorem inf_X4 : am_inf 4 RX4 TX4 8 tyX4 := ⟨rfl, in_X4, tyX4_ok, fun a ha b hb h => Or.inl (nmX4 a ha b hb h)⟩
theorem inf_X5 : am_inf 5 RX5 TX5 9 tyX5 := ⟨rfl, in_X5, tyX5_ok, fun a ha b hb h => Or.inl (nmX5 a ha b hb h)⟩
theorem inf_X6 : am_inf 6 RX6 TX6 95 tyX6 := ⟨rfl, in_X6, tyX6_ok, fun a ha b hb h => Or.inl (nmX6 a ha b hb h)⟩
theorem inf_X7 : am_inf 7 RX7 TX7 1 tyX7 := ⟨rfl, in_X7, tyX7_ok, fun a ha b hb h => Or.inl (nmX7 a ha b hb h)⟩
theorem inf_X8 : am_inf 8 RX8 TX8 13 tyX8 := ⟨rfl, in_X8, tyX8_ok, fun a ha b hb h => Or.inl (nmX8 a ha b hb h)⟩
theorem inf_X9 : am_inf 9 RX9 TX9 4 tyX9 := ⟨rfl, in_X9, tyX9_ok, fun a ha b hb h => Or.inl (nmX9 a ha b hb h)⟩
theorem inf_X10 : am_inf 10 RX10 TX10 3 tyX10 := ⟨rfl, in_X10, tyX10_ok, fun a ha b hb h => Or.inl (nmX10 a ha b hb h)⟩
theorem inf_X12 : am_inf 11 RX12 TX12 5 tyX12 := ⟨rfl, in_X12, tyX12_ok, by decide +kernel⟩
theorem inf_X14 : am_inf 12 RX14 TX14 3 tyX14 := ⟨rfl, in_X14, tyX14_ok, by decide +kernel⟩
theorem inf_X15 : am_inf 13 RX15 TX15 3 tyX15 := ⟨rfl, in_X15, tyX15_ok, by decide +kernel⟩
theorem inf_X16 : am_inf 14 RX16 TX16 3 tyX16 := ⟨rfl, in_X16, tyX16_ok, by decide +kernel⟩
theorem inf_X17 : am_inf 15 RX17 TX17 3 tyX17 := ⟨rfl, in_X17, tyX17_ok, by decide +kernel⟩
theorem inf_X18 : am_inf 16 RX18 TX18 6 tyX18 := ⟨rfl, in_X18, tyX18_ok, by decide +kernel⟩
theorem inf_X19 : am_inf 17 RX19 TX19 4 tyX19 := ⟨rfl, in_X19, tyX19_ok, by decide +kernel⟩
theorem inf_X20 : am_inf 18 RX20 TX20 4 tyX20 := ⟨rfl, in_X20, tyX20_ok, by decide +kernel⟩
theorem inf_X21 : am_inf 19 RX21 TX21 4 tyX21 := ⟨rfl, in_X21, tyX21_ok, by decide +kernel⟩
theorem inf_X22 : am_inf 20 RX22 TX22 2 tyX22 := ⟨rfl, in_X22, tyX22_ok, by decide +kernel⟩
theorem inf_X23 : am_inf 21 RX23 TX23 9 tyX23 := ⟨rfl, in_X23, tyX23_ok, fun a ha b hb h => Or.inl (nmX23 a ha b hb h)⟩
theorem inf_X24 : am_inf 22 RX24 TX24 3 tyX24 := ⟨rfl, in_X24, tyX24_ok, fun a ha b hb h => Or.inl (nmX24 a ha b hb h)⟩
theorem inf_X25 : am_inf 23 RX25 TX25 3 tyX25 := ⟨rfl, in_X25, tyX25_ok, fun a ha b hb h => Or.inl (nmX25 a ha b hb h)⟩
theorem inf_X26 : am_inf 24 RX26 TX26 3 tyX26 := ⟨rfl, in_X26, tyX26_ok, fun a ha b hb h => Or.inl (nmX26 a ha b hb h)⟩
theorem inf_X28 : am_inf 25 RX28 TX28 5 tyX28 := ⟨rfl, in_X28, tyX28_ok, by decide +kernel⟩
theorem inf_X29 : am_inf 26 RX29 TX29 4 tyX29 := ⟨rfl, in_X29, tyX29_ok, by decide +kernel⟩
theorem inf_X30 : am_inf 27 RX30 TX30 4 tyX30 := ⟨rfl, in_X30, tyX30_ok, fun a ha b hb h => Or.inl (nmX30 a ha b hb h)⟩
theorem inf_X31 : am_inf 28 RX31 TX31 3 tyX31 := ⟨rfl, in_X31, tyX31_ok, by decide +kernel⟩
theorem inf_X32 : am_inf 29 RX32 TX32 4 tyX32 := ⟨rfl, in_X32, tyX32_ok, by decide +kernel⟩
theorem inf_X33 : am_inf 30 RX33 TX33 4 tyX33 := ⟨rfl, in_X33, tyX33_ok, by decide +kernel⟩
theorem inf_X34 : am_inf 31 RX34 TX34 6 tyX34 := ⟨rfl, in_X34, tyX34_ok, fun a ha b hb h => Or.inl (nmX34 a ha b hb h)⟩
theorem inf_X35 : am_inf 32 RX35 TX35 7 tyX35 := ⟨rfl, in_X35, tyX35_ok, fun a ha b hb h => Or.inl (nmX35 a ha b hb h)⟩
theorem inf_J14 : am_inf 33 RJ14 TJ14 3 tyJ14 := ⟨rfl, in_J14, tyJ14_ok, fun a ha b hb h => Or.inl (nmJ14 a ha b hb h)⟩
theorem inf_J3 : am_inf 34 RJ3 TJ3 4 tyJ3 := ⟨rfl, in_J3, tyJ3_ok, fun a ha b hb h => Or.inl (nmJ3 a ha b hb h)⟩
theorem inf_J4 : am_inf 35 RJ4 TJ4 4 tyJ4 := ⟨rfl, in_J4, tyJ4_ok, fun a ha b hb h => Or.inl (nmJ4 a ha b hb h)⟩
