set_option maxRecDepth 100000
/-! ===== the law (printed by tools/gx.py) ===== -/
def m_L_law : am_M := (x, code, 4, ret, [])
def f_m (σ : am_S) (r : Option Nat) (K : mm_F → mm_S → Prop) : Prop := ∃ ρ μ, σ = mm_s ρ μ ∧ r = some ρ.1 ∧ K ρ μ
def f_sc (G : am_G) (i : Int32) (K : Int32 → Prop) : Prop := vp_in i (am_sv G 24) ∧ match am_st G (100 + i.toNatClampNeg) with
  | .int v => K v
  | _ => False
theorem fx_sc {G : am_G} {M : am_M} {pc d : Nat} {L : List (Nat × Value)} {rest : List Value} {σ : am_S} {Q : am_R → am_S → Prop} {i : Int32} (hdg : decode M.2.1 pc = .ok (.iaload, 1)) {K : Int32 → Prop} (h : f_sc G i K) (kk : ∀ v, K v → am_Wp G M (pc + 1) d L (.int v :: rest) σ Q) : am_Wp G M pc d L (.int i :: va_rf (some (am_sk G 24)) :: rest) σ Q := by
  obtain ⟨h1, h2⟩ := h
  cases hv : am_st G (100 + i.toNatClampNeg) with
  | int v => rw [hv] at h2; exact am_sld h1 hv hdg (kk v h2)
  | _ => rw [hv] at h2; exact h2.elim
theorem fx_callM {G : am_G} {M : am_M} {pc d : Nat} {L : List (Nat × Value)} {rest : List Value} {σ : am_S} {Q : am_R → am_S → Prop} {Mc : am_M} {index : Nat} {as : List Value} {r : Option Nat} (hB : am_Bm Mc as.length (Cond.code Mc.1 Mc.2.1 Mc.2.2.1 Mc.2.2.2.1)) (hlink : Cond.methodLink M.1.cls index Mc.1 ∈ lw_all) (hinst : Cond.instanceMethod Mc.1 ∈ lw_all) (hsel : Cond.selects RX6 Mc.1 Mc.1 ∈ lw_all) (hst : rest.length ≤ 8) (hdg : decode M.2.1 pc = .ok (.invokevirtual index, 3)) {K : mm_F → mm_S → Prop} (h : f_m σ r K) (hm : ∀ ρ μ, K ρ μ → am_Mt G Mc d (Cond.code Mc.1 Mc.2.1 Mc.2.2.1 Mc.2.2.2.1) (va_rf (some ρ.1) :: as) (mm_s ρ μ) (am_K2 G M pc (d + 1) L rest Q)) : am_Wp G M pc (d + 1) L (as.reverse ++ va_rf r :: rest) σ Q := by
  obtain ⟨ρ, μ, rfl, rfl, h⟩ := h
  exact am_callV inf_X6 (mm_at ρ μ) (hm ρ μ h) hlink hinst hsel hB.1 hB.2.1 hB.2.2.1 hB.2.2.2.1 hst hB.2.2.2.2 hdg
def W_L_law (G : am_G) (d : Nat) (σ : am_S) (Q : Int32 → am_S → Prop) : Prop := am_Wp G m_L_law 0 d [(0, va_rf (some (am_sk G 24)))] [] σ (f_qi Q f_no)
def B_L_law_18 (G : am_G) (d : Nat) (x1 : Option Nat) (x2 : Option Nat) (x3 : Int32) (σ : am_S) (Q : Int32 → am_S → Prop) : Prop := am_Wp G m_L_law 18 d [(0, va_rf (some (am_sk G 24))), (2, va_rf x1), (4, va_rf x2), (6, .int x3)] [] σ (f_qi Q f_no)
def B_L_law_822 (G : am_G) (d : Nat) (x1 : Option Nat) (x2 : Option Nat) (x3 : Int32) (s0 : Int32) (s1 : Int32) (s2 : Option Nat) (σ : am_S) (Q : Int32 → am_S → Prop) : Prop := am_Wp G m_L_law 822 d [(0, va_rf (some (am_sk G 24))), (2, va_rf x1), (4, va_rf x2), (6, .int x3)] [.int s0, .int s1, va_rf s2] σ (f_qi Q f_no)
def B_L_law_958 (G : am_G) (d : Nat) (x1 : Option Nat) (x2 : Option Nat) (x3 : Int32) (σ : am_S) (Q : Int32 → am_S → Prop) : Prop := am_Wp G m_L_law 958 d [(0, va_rf (some (am_sk G 24))), (2, va_rf x1), (4, va_rf x2), (6, .int x3)] [] σ (f_qi Q f_no)
theorem W_L_law_f {G : am_G} {d : Nat} {σ : am_S} {Q : Int32 → am_S → Prop} (h : f_new G σ 0 45 tyX0 (fun n1 σ2 => W_X0_init G d n1 σ2 (fun σ4 => f_new G σ4 6 95 tyX6 (fun n7 σ8 => W_X6_init G d n7 σ8 (fun σ10 => B_L_law_18 G (d + 1) (some n1) (some n7) 0 σ10 Q))))) : W_L_law G (d + 1) σ Q := by
  unfold W_L_law
  refine fx_new inf_X0 q1053 q224 q161 dL_law_0 h (fun n1 σ2 h => ?_)
  refine am_dup dL_law_3 (am_rf_cat _) ?_
  refine fx_callI (Mc := m_X0_init) (as := []) bm_X0_init q1054 q1055 rfl rfl (Nat.le_of_ble_eq_true rfl) dL_law_4 (mt_X0_init (fx_k2v h (fun σ4 h => ?_) (fun q σ' h => h.elim)))
  refine am_astore_n (x := (some n1)) (L' := [(2, va_rf (some n1)), (0, va_rf (some (am_sk G 24)))]) dL_law_7 rfl (Nat.le_of_ble_eq_true rfl) rfl ?_
  refine fx_new inf_X6 q2312 q2313 q169 dL_law_8 h (fun n7 σ8 h => ?_)
  refine am_dup dL_law_11 (am_rf_cat _) ?_
  refine fx_callI (Mc := m_X6_init) (as := []) bm_X6_init q2314 q2315 rfl rfl (Nat.le_of_ble_eq_true rfl) dL_law_12 (mt_X6_init (fx_k2v h (fun σ10 h => ?_) (fun q σ' h => h.elim)))
  refine am_astore_n (x := (some n7)) (L' := [(4, va_rf (some n7)), (2, va_rf (some n1)), (0, va_rf (some (am_sk G 24)))]) dL_law_15 rfl (Nat.le_of_ble_eq_true rfl) rfl ?_
  refine am_iconst (v := 0) dL_law_16 (by decide) ?_
  refine am_istore_n (L' := [(6, .int 0), (4, va_rf (some n7)), (2, va_rf (some n1)), (0, va_rf (some (am_sk G 24)))]) dL_law_17 rfl (Nat.le_of_ble_eq_true rfl) rfl ?_
  exact am_lss h rfl
theorem B_L_law_18_f {G : am_G} {d : Nat} {x1 : Option Nat} {x2 : Option Nat} {x3 : Int32} {σ : am_S} {Q : Int32 → am_S → Prop} (h : ((((nI (am_sv G 24)) - 6) < x3 → Q 1 σ) ∧ (¬ ((nI (am_sv G 24)) - 6) < x3 → f_sc G x3 (fun v1 => (((v1 &&& 31) = 0 → f_sc G (x3 + 1) (fun v2 => f_sc G (x3 + 2) (fun v3 => f_sc G (x3 + 3) (fun v4 => f_sc G (x3 + 4) (fun v5 => f_sc G (x3 + 5) (fun v6 => f_o σ x1 [0] (fun b => W_X0_feed G d b v2 v3 v4 v5 v6 σ (fun v7 σ8 => f_sc G (x3 + 1) (fun v11 => f_sc G (x3 + 2) (fun v12 => f_sc G (x3 + 3) (fun v13 => f_sc G (x3 + 4) (fun v14 => f_sc G (x3 + 5) (fun v15 => f_m σ8 x2 (fun ρ17 μ18 => W_X6_feed G ρ17 d v11 v12 v13 v14 v15 μ18 (fun v16 μ19 => ((v7 = v16 → B_L_law_958 G (d + 1) x1 x2 x3 (mm_s ρ17 μ19) Q) ∧ (¬ v7 = v16 → Q 0 (mm_s ρ17 μ19)))))))))))))))))) ∧ ((v1 &&& 31) = 1 → f_sc G (x3 + 1) (fun v20 => f_o σ x1 [0] (fun b => W_X0_end G d b v20 σ (fun v21 σ22 => f_sc G (x3 + 1) (fun v25 => f_m σ22 x2 (fun ρ27 μ28 => W_X6_end G ρ27 d v25 μ28 (fun v26 μ29 => ((v21 = v26 → B_L_law_958 G (d + 1) x1 x2 x3 (mm_s ρ27 μ29) Q) ∧ (¬ v21 = v26 → Q 0 (mm_s ρ27 μ29)))))))))) ∧ ((v1 &&& 31) = 2 → f_o σ x1 [0] (fun b => W_X0_word G d b σ (fun v30 σ31 => f_m σ31 x2 (fun ρ35 μ36 => W_X6_word_2 G ρ35 d μ36 (fun v34 μ37 => ((v30 = v34 → B_L_law_958 G (d + 1) x1 x2 x3 (mm_s ρ35 μ37) Q) ∧ (¬ v30 = v34 → Q 0 (mm_s ρ35 μ37)))))))) ∧ ((v1 &&& 31) = 3 → f_o σ x1 [0] (fun b => W_X0_pond G d b σ (fun v38 σ39 => f_m σ39 x2 (fun ρ43 μ44 => W_X6_pond G ρ43 d μ44 (fun v42 μ45 => ((v38 = v42 → B_L_law_958 G (d + 1) x1 x2 x3 (mm_s ρ43 μ45) Q) ∧ (¬ v38 = v42 → Q 0 (mm_s ρ43 μ45)))))))) ∧ ((v1 &&& 31) = 4 → f_o σ x1 [0] (fun b => W_X0_patch G d b σ (fun v46 σ47 => f_m σ47 x2 (fun ρ51 μ52 => W_X6_patch G ρ51 d μ52 (fun v50 μ53 => ((v46 = v50 → B_L_law_958 G (d + 1) x1 x2 x3 (mm_s ρ51 μ53) Q) ∧ (¬ v46 = v50 → Q 0 (mm_s ρ51 μ53)))))))) ∧ ((v1 &&& 31) = 5 → f_sc G (x3 + 1) (fun v54 => f_o σ x1 [0] (fun b => W_X0_fault G d b v54 σ (fun v55 σ56 => f_sc G (x3 + 1) (fun v59 => f_m σ56 x2 (fun ρ61 μ62 => W_X6_fault G ρ61 d v59 μ62 (fun v60 μ63 => ((v55 = v60 → B_L_law_958 G (d + 1) x1 x2 x3 (mm_s ρ61 μ63) Q) ∧ (¬ v55 = v60 → Q 0 (mm_s ρ61 μ63)))))))))) ∧ ((v1 &&& 31) = 6 → f_o σ x1 [0] (fun b => W_X0_kinds G d b σ (fun v64 σ65 => f_m σ65 x2 (fun ρ69 μ70 => W_X6_kinds G ρ69 d μ70 (fun v68 μ71 => ((v64 = v68 → B_L_law_958 G (d + 1) x1 x2 x3 (mm_s ρ69 μ71) Q) ∧ (¬ v64 = v68 → Q 0 (mm_s ρ69 μ71)))))))) ∧ ((v1 &&& 31) = 7 → f_sc G (x3 + 1) (fun v72 => f_sc G (x3 + 2) (fun v73 => f_o σ x1 [0] (fun b => W_X0_kind G d b v72 v73 σ (fun v74 σ75 => f_sc G (x3 + 1) (fun v78 => f_sc G (x3 + 2) (fun v79 => f_m σ75 x2 (fun ρ81 μ82 => W_X6_kind G ρ81 d v78 v79 μ82 (fun v80 μ83 => ((v74 = v80 → B_L_law_958 G (d + 1) x1 x2 x3 (mm_s ρ81 μ83) Q) ∧ (¬ v74 = v80 → Q 0 (mm_s ρ81 μ83)))))))))))) ∧ ((v1 &&& 31) = 8 → f_sc G (x3 + 1) (fun v84 => f_o σ x1 [0] (fun b => W_X0_create G d b v84 σ (fun v85 σ86 => f_sc G (x3 + 1) (fun v89 => f_m σ86 x2 (fun ρ91 μ92 => W_X6_create G ρ91 d v89 μ92 (fun v90 μ93 => ((v85 = v90 → B_L_law_958 G (d + 1) x1 x2 x3 (mm_s ρ91 μ93) Q) ∧ (¬ v85 = v90 → Q 0 (mm_s ρ91 μ93)))))))))) ∧ ((v1 &&& 31) = 9 → f_sc G (x3 + 1) (fun v94 => f_o σ x1 [0] (fun b => W_X0_kindOf G d b v94 σ (fun v95 σ96 => f_sc G (x3 + 1) (fun v99 => f_m σ96 x2 (fun ρ101 μ102 => W_X6_kindOf G ρ101 d v99 μ102 (fun v100 μ103 => ((v95 = v100 → B_L_law_958 G (d + 1) x1 x2 x3 (mm_s ρ101 μ103) Q) ∧ (¬ v95 = v100 → Q 0 (mm_s ρ101 μ103)))))))))) ∧ ((v1 &&& 31) = 10 → f_sc G (x3 + 1) (fun v104 => f_o σ x1 [0] (fun b => W_X0_generation G d b v104 σ (fun v105 σ106 => f_sc G (x3 + 1) (fun v109 => f_m σ106 x2 (fun ρ111 μ112 => W_X6_generation G ρ111 d v109 μ112 (fun v110 μ113 => ((v105 = v110 → B_L_law_958 G (d + 1) x1 x2 x3 (mm_s ρ111 μ113) Q) ∧ (¬ v105 = v110 → Q 0 (mm_s ρ111 μ113)))))))))) ∧ ((v1 &&& 31) = 11 → f_sc G (x3 + 1) (fun v114 => f_sc G (x3 + 2) (fun v115 => f_o σ x1 [0] (fun b => W_X0_has_3 G d b v114 v115 σ (fun v116 σ117 => f_sc G (x3 + 1) (fun v120 => f_sc G (x3 + 2) (fun v121 => f_m σ117 x2 (fun ρ123 μ124 => W_X6_has G ρ123 d v120 v121 μ124 (fun v122 μ125 => ((v116 = v122 → B_L_law_958 G (d + 1) x1 x2 x3 (mm_s ρ123 μ125) Q) ∧ (¬ v116 = v122 → Q 0 (mm_s ρ123 μ125)))))))))))) ∧ ((v1 &&& 31) = 12 → f_sc G (x3 + 1) (fun v126 => f_sc G (x3 + 2) (fun v127 => f_o σ x1 [0] (fun b => W_X0_value G d b v126 v127 σ (fun v128 σ129 => f_sc G (x3 + 1) (fun v132 => f_sc G (x3 + 2) (fun v133 => f_m σ129 x2 (fun ρ135 μ136 => W_X6_value G ρ135 d v132 v133 μ136 (fun v134 μ137 => ((v128 = v134 → B_L_law_958 G (d + 1) x1 x2 x3 (mm_s ρ135 μ137) Q) ∧ (¬ v128 = v134 → Q 0 (mm_s ρ135 μ137)))))))))))) ∧ ((v1 &&& 31) = 13 → f_sc G (x3 + 1) (fun v138 => f_sc G (x3 + 2) (fun v139 => f_sc G (x3 + 3) (fun v140 => f_o σ x1 [0] (fun b => W_X0_put G d b v138 v139 v140 σ (fun v141 σ142 => f_sc G (x3 + 1) (fun v145 => f_sc G (x3 + 2) (fun v146 => f_sc G (x3 + 3) (fun v147 => f_m σ142 x2 (fun ρ149 μ150 => W_X6_put G ρ149 d v145 v146 v147 μ150 (fun v148 μ151 => ((v141 = v148 → B_L_law_958 G (d + 1) x1 x2 x3 (mm_s ρ149 μ151) Q) ∧ (¬ v141 = v148 → Q 0 (mm_s ρ149 μ151)))))))))))))) ∧ ((v1 &&& 31) = 14 → f_sc G (x3 + 1) (fun v152 => f_sc G (x3 + 2) (fun v153 => f_o σ x1 [0] (fun b => W_X0_fixed G d b v152 v153 σ (fun v154 σ155 => f_sc G (x3 + 1) (fun v158 => f_sc G (x3 + 2) (fun v159 => f_m σ155 x2 (fun ρ161 μ162 => W_X6_fixed G ρ161 d v158 v159 μ162 (fun v160 μ163 => ((v154 = v160 → B_L_law_958 G (d + 1) x1 x2 x3 (mm_s ρ161 μ163) Q) ∧ (¬ v154 = v160 → Q 0 (mm_s ρ161 μ163)))))))))))) ∧ ((v1 &&& 31) = 15 → f_sc G (x3 + 1) (fun v164 => f_sc G (x3 + 2) (fun v165 => f_sc G (x3 + 3) (fun v166 => f_o σ x1 [0] (fun b => W_X0_act G d b v164 v165 v166 σ (fun v167 σ168 => f_sc G (x3 + 1) (fun v171 => f_sc G (x3 + 2) (fun v172 => f_sc G (x3 + 3) (fun v173 => f_m σ168 x2 (fun ρ175 μ176 => W_X6_act G ρ175 d v171 v172 v173 μ176 (fun v174 μ177 => ((v167 = v174 → B_L_law_958 G (d + 1) x1 x2 x3 (mm_s ρ175 μ177) Q) ∧ (¬ v167 = v174 → Q 0 (mm_s ρ175 μ177)))))))))))))) ∧ ((v1 &&& 31) = 16 → f_sc G (x3 + 1) (fun v178 => f_o σ x1 [0] (fun b => W_X0_told G d b v178 σ (fun v179 σ180 => f_sc G (x3 + 1) (fun v183 => f_m σ180 x2 (fun ρ185 μ186 => W_X6_told G ρ185 d v183 μ186 (fun v184 μ187 => ((v179 = v184 → B_L_law_958 G (d + 1) x1 x2 x3 (mm_s ρ185 μ187) Q) ∧ (¬ v179 = v184 → Q 0 (mm_s ρ185 μ187)))))))))) ∧ ((v1 &&& 31) = 17 → f_sc G (x3 + 1) (fun v188 => f_o σ x1 [0] (fun b => W_X0_wake G d b v188 σ (fun v189 σ190 => f_sc G (x3 + 1) (fun v193 => f_m σ190 x2 (fun ρ195 μ196 => W_X6_wake G ρ195 d v193 μ196 (fun v194 μ197 => ((v189 = v194 → B_L_law_958 G (d + 1) x1 x2 x3 (mm_s ρ195 μ197) Q) ∧ (¬ v189 = v194 → Q 0 (mm_s ρ195 μ197)))))))))) ∧ ((v1 &&& 31) = 18 → f_o σ x1 [0] (fun b => W_X0_beat G d b σ (fun v198 σ199 => f_m σ199 x2 (fun ρ203 μ204 => W_X6_beat G ρ203 d μ204 (fun v202 μ205 => ((v198 = v202 → B_L_law_958 G (d + 1) x1 x2 x3 (mm_s ρ203 μ205) Q) ∧ (¬ v198 = v202 → Q 0 (mm_s ρ203 μ205)))))))) ∧ ((v1 &&& 31) = 19 → f_sc G (x3 + 1) (fun v206 => f_o σ x1 [0] (fun b => W_X0_outcome G d b v206 σ (fun v207 σ208 => f_sc G (x3 + 1) (fun v211 => f_m σ208 x2 (fun ρ213 μ214 => W_X6_outcome G ρ213 d v211 μ214 (fun v212 μ215 => ((v207 = v212 → B_L_law_958 G (d + 1) x1 x2 x3 (mm_s ρ213 μ215) Q) ∧ (¬ v207 = v212 → Q 0 (mm_s ρ213 μ215)))))))))) ∧ ((v1 &&& 31) = 20 → f_sc G (x3 + 1) (fun v216 => f_sc G (x3 + 2) (fun v217 => f_o σ x1 [0] (fun b => W_X0_ran G d b v216 v217 σ (fun v218 σ219 => f_sc G (x3 + 1) (fun v222 => f_sc G (x3 + 2) (fun v223 => f_m σ219 x2 (fun ρ225 μ226 => W_X6_ran_2 G ρ225 d v222 v223 μ226 (fun v224 μ227 => ((v218 = v224 → B_L_law_958 G (d + 1) x1 x2 x3 (mm_s ρ225 μ227) Q) ∧ (¬ v218 = v224 → Q 0 (mm_s ρ225 μ227)))))))))))) ∧ ((v1 &&& 31) = 21 → f_sc G (x3 + 1) (fun v228 => f_sc G (x3 + 2) (fun v229 => f_sc G (x3 + 3) (fun v230 => f_o σ x1 [0] (fun b => W_X0_begin G d b v228 v229 v230 σ (fun v231 σ232 => f_sc G (x3 + 1) (fun v235 => f_sc G (x3 + 2) (fun v236 => f_sc G (x3 + 3) (fun v237 => f_m σ232 x2 (fun ρ239 μ240 => W_X6_begin_2 G ρ239 d v235 v236 v237 μ240 (fun v238 μ241 => ((v231 = v238 → B_L_law_958 G (d + 1) x1 x2 x3 (mm_s ρ239 μ241) Q) ∧ (¬ v231 = v238 → Q 0 (mm_s ρ239 μ241)))))))))))))) ∧ ((v1 &&& 31) = 22 → f_sc G (x3 + 1) (fun v242 => f_sc G (x3 + 2) (fun v243 => f_o σ x1 [0] (fun b => W_X0_under G d b v242 v243 σ (fun v244 σ245 => f_sc G (x3 + 1) (fun v248 => f_sc G (x3 + 2) (fun v249 => f_m σ245 x2 (fun ρ251 μ252 => W_X6_under G ρ251 d v248 v249 μ252 (fun v250 μ253 => ((v244 = v250 → B_L_law_958 G (d + 1) x1 x2 x3 (mm_s ρ251 μ253) Q) ∧ (¬ v244 = v250 → Q 0 (mm_s ρ251 μ253)))))))))))) ∧ ((v1 &&& 31) = 23 → f_sc G (x3 + 1) (fun v254 => f_sc G (x3 + 2) (fun v255 => ((v255 = 0 → B_L_law_822 G (d + 1) x1 x2 x3 0 v254 x1 σ Q) ∧ (¬ v255 = 0 → B_L_law_822 G (d + 1) x1 x2 x3 1 v254 x1 σ Q))))) ∧ ((v1 &&& 31) = 24 → f_sc G (x3 + 1) (fun v256 => f_o σ x1 [0] (fun b => W_X0_apply G d b v256 σ (fun v257 σ258 => f_sc G (x3 + 1) (fun v261 => f_m σ258 x2 (fun ρ263 μ264 => W_X6_apply G ρ263 d v261 μ264 (fun v262 μ265 => ((v257 = v262 → B_L_law_958 G (d + 1) x1 x2 x3 (mm_s ρ263 μ265) Q) ∧ (¬ v257 = v262 → Q 0 (mm_s ρ263 μ265)))))))))) ∧ ((v1 &&& 31) = 25 → f_sc G (x3 + 1) (fun v266 => f_o σ x1 [0] (fun b => W_X0_applied G d b v266 σ (fun v267 σ268 => f_sc G (x3 + 1) (fun v271 => f_m σ268 x2 (fun ρ273 μ274 => W_X6_applied G ρ273 d v271 μ274 (fun v272 μ275 => ((v267 = v272 → B_L_law_958 G (d + 1) x1 x2 x3 (mm_s ρ273 μ275) Q) ∧ (¬ v267 = v272 → Q 0 (mm_s ρ273 μ275)))))))))) ∧ ((v1 &&& 31) = 26 → f_sc G (x3 + 1) (fun v276 => f_o σ x1 [0] (fun b => W_X0_refusal G d b v276 σ (fun v277 σ278 => f_sc G (x3 + 1) (fun v281 => f_m σ278 x2 (fun ρ283 μ284 => W_X6_refusal G ρ283 d v281 μ284 (fun v282 μ285 => ((v277 = v282 → B_L_law_958 G (d + 1) x1 x2 x3 (mm_s ρ283 μ285) Q) ∧ (¬ v277 = v282 → Q 0 (mm_s ρ283 μ285)))))))))) ∧ ((v1 &&& 31) = 27 → f_o σ x1 [0] (fun b => W_X0_back G d b σ (fun v286 σ287 => f_m σ287 x2 (fun ρ291 μ292 => W_X6_back G ρ291 d μ292 (fun v290 μ293 => ((v286 = v290 → B_L_law_958 G (d + 1) x1 x2 x3 (mm_s ρ291 μ293) Q) ∧ (¬ v286 = v290 → Q 0 (mm_s ρ291 μ293)))))))) ∧ ((v1 &&& 31) = 28 → f_sc G (x3 + 1) (fun v294 => f_o σ x1 [0] (fun b => W_X0_sum G d b v294 σ (fun v295 σ296 => f_sc G (x3 + 1) (fun v299 => f_m σ296 x2 (fun ρ301 μ302 => W_X6_sum_2 G ρ301 d v299 μ302 (fun v300 μ303 => (((lg_cmp v295 v300) = 0 → B_L_law_958 G (d + 1) x1 x2 x3 (mm_s ρ301 μ303) Q) ∧ (¬ (lg_cmp v295 v300) = 0 → Q 0 (mm_s ρ301 μ303)))))))))) ∧ ((((v1 &&& 31) : Int32).toInt < 0 ∨ 28 < ((v1 &&& 31) : Int32).toInt) → B_L_law_958 G (d + 1) x1 x2 x3 σ Q)))))) : B_L_law_18 G (d + 1) x1 x2 x3 σ Q := by
  unfold B_L_law_18
  refine am_iload_n (x := x3) dL_law_18 rfl rfl ?_
  refine am_aloadr_n (x := (some (am_sk G 24))) dL_law_19 rfl rfl ?_
  refine am_slen rfl dL_law_20 ?_
  refine am_bipush (v := 6) dL_law_21 (by decide) ?_
  refine am_isub dL_law_23 ?_
  refine am_icmp_gt (tgt := 964) dL_law_24 (by decide) (fun c => ?_) (fun c => ?_)
  · have h := h.1 c
    refine am_iconst (v := 1) dL_law_964 (by decide) ?_
    exact am_zret rfl rfl dL_law_965 h
  · have h := h.2 c
    refine am_aloadr_n (x := (some (am_sk G 24))) dL_law_27 rfl rfl ?_
    refine am_iload_n (x := x3) dL_law_28 rfl rfl ?_
    refine fx_sc dL_law_29 h (fun v1 h => ?_)
    refine am_bipush (v := 31) dL_law_30 (by decide) ?_
    refine am_iand dL_law_32 ?_
    by_cases c : ((v1 &&& 31) : Int32).toInt < 0 ∨ 28 < ((v1 &&& 31) : Int32).toInt
    · have h := h.2.2.2.2.2.2.2.2.2.2.2.2.2.2.2.2.2.2.2.2.2.2.2.2.2.2.2.2.2 c
      refine am_tableOut (tgt := 958) dL_law_33 c (by decide) ?_
      exact am_lss h rfl
    · obtain ⟨j, hj, e⟩ := am_tab (lo := 0) (n := 29) c
      match j, hj, e with
      | 0, hj, e =>
        have c : ((v1 &&& 31) : Int32) = 0 := Int32.toInt_inj.mp (e.trans (by decide))
        have h := h.1 c
        refine am_tableIn (tgt := 164) dL_law_33 (by rw [c]; decide) (by rw [c]; decide) (by rw [c]; rfl) (by decide) ?_
        refine am_aloadr_n (x := x1) dL_law_164 rfl rfl ?_
        refine am_aloadr_n (x := (some (am_sk G 24))) dL_law_165 rfl rfl ?_
        refine am_iload_n (x := x3) dL_law_166 rfl rfl ?_
        refine am_iconst (v := 1) dL_law_167 (by decide) ?_
        refine am_iadd dL_law_168 ?_
        refine fx_sc dL_law_169 h (fun v2 h => ?_)
        refine am_aloadr_n (x := (some (am_sk G 24))) dL_law_170 rfl rfl ?_
        refine am_iload_n (x := x3) dL_law_171 rfl rfl ?_
        refine am_iconst (v := 2) dL_law_172 (by decide) ?_
        refine am_iadd dL_law_173 ?_
        refine fx_sc dL_law_174 h (fun v3 h => ?_)
        refine am_aloadr_n (x := (some (am_sk G 24))) dL_law_175 rfl rfl ?_
        refine am_iload_n (x := x3) dL_law_176 rfl rfl ?_
        refine am_iconst (v := 3) dL_law_177 (by decide) ?_
        refine am_iadd dL_law_178 ?_
        refine fx_sc dL_law_179 h (fun v4 h => ?_)
        refine am_aloadr_n (x := (some (am_sk G 24))) dL_law_180 rfl rfl ?_
        refine am_iload_n (x := x3) dL_law_181 rfl rfl ?_
        refine am_iconst (v := 4) dL_law_182 (by decide) ?_
        refine am_iadd dL_law_183 ?_
        refine fx_sc dL_law_184 h (fun v5 h => ?_)
        refine am_aloadr_n (x := (some (am_sk G 24))) dL_law_185 rfl rfl ?_
        refine am_iload_n (x := x3) dL_law_186 rfl rfl ?_
        refine am_iconst (v := 5) dL_law_187 (by decide) ?_
        refine am_iadd dL_law_188 ?_
        refine fx_sc dL_law_189 h (fun v6 h => ?_)
        refine fx_callV (Mc := m_X0_feed) (as := [.int v2, .int v3, .int v4, .int v5, .int v6]) (cs := [0]) (r := x1) (f_clsC inf_X0 q1378 f_cls0) bm_X0_feed q1376 q1377 (Nat.le_of_ble_eq_true rfl) dL_law_190 h (fun b h => mt_X0_feed (fx_k2i h (fun v7 σ8 h => ?_) (fun q σ' h => h.elim)))
        refine am_aloadr_n (x := x2) dL_law_193 rfl rfl ?_
        refine am_aloadr_n (x := (some (am_sk G 24))) dL_law_194 rfl rfl ?_
        refine am_iload_n (x := x3) dL_law_195 rfl rfl ?_
        refine am_iconst (v := 1) dL_law_196 (by decide) ?_
        refine am_iadd dL_law_197 ?_
        refine fx_sc dL_law_198 h (fun v11 h => ?_)
        refine am_aloadr_n (x := (some (am_sk G 24))) dL_law_199 rfl rfl ?_
        refine am_iload_n (x := x3) dL_law_200 rfl rfl ?_
        refine am_iconst (v := 2) dL_law_201 (by decide) ?_
        refine am_iadd dL_law_202 ?_
        refine fx_sc dL_law_203 h (fun v12 h => ?_)
        refine am_aloadr_n (x := (some (am_sk G 24))) dL_law_204 rfl rfl ?_
        refine am_iload_n (x := x3) dL_law_205 rfl rfl ?_
        refine am_iconst (v := 3) dL_law_206 (by decide) ?_
        refine am_iadd dL_law_207 ?_
        refine fx_sc dL_law_208 h (fun v13 h => ?_)
        refine am_aloadr_n (x := (some (am_sk G 24))) dL_law_209 rfl rfl ?_
        refine am_iload_n (x := x3) dL_law_210 rfl rfl ?_
        refine am_iconst (v := 4) dL_law_211 (by decide) ?_
        refine am_iadd dL_law_212 ?_
        refine fx_sc dL_law_213 h (fun v14 h => ?_)
        refine am_aloadr_n (x := (some (am_sk G 24))) dL_law_214 rfl rfl ?_
        refine am_iload_n (x := x3) dL_law_215 rfl rfl ?_
        refine am_iconst (v := 5) dL_law_216 (by decide) ?_
        refine am_iadd dL_law_217 ?_
        refine fx_sc dL_law_218 h (fun v15 h => ?_)
        refine fx_callM (Mc := m_X6_feed) (as := [.int v11, .int v12, .int v13, .int v14, .int v15]) bm_X6_feed q2803 q2804 q2805 (Nat.le_of_ble_eq_true rfl) dL_law_219 h (fun ρ17 μ18 h => mt_X6_feed (mm_k2i h (fun v16 μ19 h => ?_)))
        refine am_icmp_eq (tgt := 958) dL_law_222 (by decide) (fun c => ?_) (fun c => ?_)
        · have h := h.1 c
          exact am_lss h rfl
        · have h := h.2 c
          refine am_iconst (v := 0) dL_law_225 (by decide) ?_
          exact am_zret rfl rfl dL_law_226 h
      | 1, hj, e =>
        have c : ((v1 &&& 31) : Int32) = 1 := Int32.toInt_inj.mp (e.trans (by decide))
        have h := h.2.1 c
        refine am_tableIn (tgt := 227) dL_law_33 (by rw [c]; decide) (by rw [c]; decide) (by rw [c]; rfl) (by decide) ?_
        refine am_aloadr_n (x := x1) dL_law_227 rfl rfl ?_
        refine am_aloadr_n (x := (some (am_sk G 24))) dL_law_228 rfl rfl ?_
        refine am_iload_n (x := x3) dL_law_229 rfl rfl ?_
        refine am_iconst (v := 1) dL_law_230 (by decide) ?_
        refine am_iadd dL_law_231 ?_
        refine fx_sc dL_law_232 h (fun v20 h => ?_)
        refine fx_callV (Mc := m_X0_end) (as := [.int v20]) (cs := [0]) (r := x1) (f_clsC inf_X0 q1386 f_cls0) bm_X0_end q1384 q1385 (Nat.le_of_ble_eq_true rfl) dL_law_233 h (fun b h => mt_X0_end (fx_k2i h (fun v21 σ22 h => ?_) (fun q σ' h => h.elim)))
        refine am_aloadr_n (x := x2) dL_law_236 rfl rfl ?_
        refine am_aloadr_n (x := (some (am_sk G 24))) dL_law_237 rfl rfl ?_
        refine am_iload_n (x := x3) dL_law_238 rfl rfl ?_
        refine am_iconst (v := 1) dL_law_239 (by decide) ?_
        refine am_iadd dL_law_240 ?_
        refine fx_sc dL_law_241 h (fun v25 h => ?_)
        refine fx_callM (Mc := m_X6_end) (as := [.int v25]) bm_X6_end q2807 q2808 q2809 (Nat.le_of_ble_eq_true rfl) dL_law_242 h (fun ρ27 μ28 h => mt_X6_end (mm_k2i h (fun v26 μ29 h => ?_)))
        refine am_icmp_eq (tgt := 958) dL_law_245 (by decide) (fun c => ?_) (fun c => ?_)
        · have h := h.1 c
          exact am_lss h rfl
        · have h := h.2 c
          refine am_iconst (v := 0) dL_law_248 (by decide) ?_
          exact am_zret rfl rfl dL_law_249 h
      | 2, hj, e =>
        have c : ((v1 &&& 31) : Int32) = 2 := Int32.toInt_inj.mp (e.trans (by decide))
        have h := h.2.2.1 c
        refine am_tableIn (tgt := 250) dL_law_33 (by rw [c]; decide) (by rw [c]; decide) (by rw [c]; rfl) (by decide) ?_
        refine am_aloadr_n (x := x1) dL_law_250 rfl rfl ?_
        refine fx_callVX (Mc := m_X0_word) (as := []) (cs := [0]) (r := x1) (f_clsC inf_X0 q1390 f_cls0) bm_X0_word q1388 q1389 (Nat.le_of_ble_eq_true rfl) dL_law_251 h (fun b h => mt_X0_word (fx_k2i h (fun v30 σ31 h => ?_) (fun q σ' h => h.elim)))
        refine am_aloadr_n (x := x2) dL_law_254 rfl rfl ?_
        refine fx_callM (Mc := m_X6_word_2) (as := []) bm_X6_word_2 q2811 q2812 q2813 (Nat.le_of_ble_eq_true rfl) dL_law_255 h (fun ρ35 μ36 h => mt_X6_word_2 (mm_k2i h (fun v34 μ37 h => ?_)))
        refine am_icmp_eq (tgt := 958) dL_law_258 (by decide) (fun c => ?_) (fun c => ?_)
        · have h := h.1 c
          exact am_lss h rfl
        · have h := h.2 c
          refine am_iconst (v := 0) dL_law_261 (by decide) ?_
          exact am_zret rfl rfl dL_law_262 h
      | 3, hj, e =>
        have c : ((v1 &&& 31) : Int32) = 3 := Int32.toInt_inj.mp (e.trans (by decide))
        have h := h.2.2.2.1 c
        refine am_tableIn (tgt := 263) dL_law_33 (by rw [c]; decide) (by rw [c]; decide) (by rw [c]; rfl) (by decide) ?_
        refine am_aloadr_n (x := x1) dL_law_263 rfl rfl ?_
        refine fx_callVX (Mc := m_X0_pond) (as := []) (cs := [0]) (r := x1) (f_clsC inf_X0 q1696 f_cls0) bm_X0_pond q1694 q1695 (Nat.le_of_ble_eq_true rfl) dL_law_264 h (fun b h => mt_X0_pond (fx_k2i h (fun v38 σ39 h => ?_) (fun q σ' h => h.elim)))
        refine am_aloadr_n (x := x2) dL_law_267 rfl rfl ?_
        refine fx_callM (Mc := m_X6_pond) (as := []) bm_X6_pond q2606 q2607 q2608 (Nat.le_of_ble_eq_true rfl) dL_law_268 h (fun ρ43 μ44 h => mt_X6_pond (mm_k2i h (fun v42 μ45 h => ?_)))
        refine am_icmp_eq (tgt := 958) dL_law_271 (by decide) (fun c => ?_) (fun c => ?_)
        · have h := h.1 c
          exact am_lss h rfl
        · have h := h.2 c
          refine am_iconst (v := 0) dL_law_274 (by decide) ?_
          exact am_zret rfl rfl dL_law_275 h
      | 4, hj, e =>
        have c : ((v1 &&& 31) : Int32) = 4 := Int32.toInt_inj.mp (e.trans (by decide))
        have h := h.2.2.2.2.1 c
        refine am_tableIn (tgt := 276) dL_law_33 (by rw [c]; decide) (by rw [c]; decide) (by rw [c]; rfl) (by decide) ?_
        refine am_aloadr_n (x := x1) dL_law_276 rfl rfl ?_
        refine fx_callVX (Mc := m_X0_patch) (as := []) (cs := [0]) (r := x1) (f_clsC inf_X0 q2061 f_cls0) bm_X0_patch q2059 q2060 (Nat.le_of_ble_eq_true rfl) dL_law_277 h (fun b h => mt_X0_patch (fx_k2i h (fun v46 σ47 h => ?_) (fun q σ' h => h.elim)))
        refine am_aloadr_n (x := x2) dL_law_280 rfl rfl ?_
        refine fx_callM (Mc := m_X6_patch) (as := []) bm_X6_patch q2779 q2780 q2781 (Nat.le_of_ble_eq_true rfl) dL_law_281 h (fun ρ51 μ52 h => mt_X6_patch (mm_k2i h (fun v50 μ53 h => ?_)))
        refine am_icmp_eq (tgt := 958) dL_law_284 (by decide) (fun c => ?_) (fun c => ?_)
        · have h := h.1 c
          exact am_lss h rfl
        · have h := h.2 c
          refine am_iconst (v := 0) dL_law_287 (by decide) ?_
          exact am_zret rfl rfl dL_law_288 h
      | 5, hj, e =>
        have c : ((v1 &&& 31) : Int32) = 5 := Int32.toInt_inj.mp (e.trans (by decide))
        have h := h.2.2.2.2.2.1 c
        refine am_tableIn (tgt := 289) dL_law_33 (by rw [c]; decide) (by rw [c]; decide) (by rw [c]; rfl) (by decide) ?_
        refine am_aloadr_n (x := x1) dL_law_289 rfl rfl ?_
        refine am_aloadr_n (x := (some (am_sk G 24))) dL_law_290 rfl rfl ?_
        refine am_iload_n (x := x3) dL_law_291 rfl rfl ?_
        refine am_iconst (v := 1) dL_law_292 (by decide) ?_
        refine am_iadd dL_law_293 ?_
        refine fx_sc dL_law_294 h (fun v54 h => ?_)
        refine fx_callV (Mc := m_X0_fault) (as := [.int v54]) (cs := [0]) (r := x1) (f_clsC inf_X0 q2228 f_cls0) bm_X0_fault q2226 q2227 (Nat.le_of_ble_eq_true rfl) dL_law_295 h (fun b h => mt_X0_fault (fx_k2i h (fun v55 σ56 h => ?_) (fun q σ' h => h.elim)))
        refine am_aloadr_n (x := x2) dL_law_298 rfl rfl ?_
        refine am_aloadr_n (x := (some (am_sk G 24))) dL_law_299 rfl rfl ?_
        refine am_iload_n (x := x3) dL_law_300 rfl rfl ?_
        refine am_iconst (v := 1) dL_law_301 (by decide) ?_
        refine am_iadd dL_law_302 ?_
        refine fx_sc dL_law_303 h (fun v59 h => ?_)
        refine fx_callM (Mc := m_X6_fault) (as := [.int v59]) bm_X6_fault q2799 q2800 q2801 (Nat.le_of_ble_eq_true rfl) dL_law_304 h (fun ρ61 μ62 h => mt_X6_fault (mm_k2i h (fun v60 μ63 h => ?_)))
        refine am_icmp_eq (tgt := 958) dL_law_307 (by decide) (fun c => ?_) (fun c => ?_)
        · have h := h.1 c
          exact am_lss h rfl
        · have h := h.2 c
          refine am_iconst (v := 0) dL_law_310 (by decide) ?_
          exact am_zret rfl rfl dL_law_311 h
      | 6, hj, e =>
        have c : ((v1 &&& 31) : Int32) = 6 := Int32.toInt_inj.mp (e.trans (by decide))
        have h := h.2.2.2.2.2.2.1 c
        refine am_tableIn (tgt := 312) dL_law_33 (by rw [c]; decide) (by rw [c]; decide) (by rw [c]; rfl) (by decide) ?_
        refine am_aloadr_n (x := x1) dL_law_312 rfl rfl ?_
        refine fx_callV (Mc := m_X0_kinds) (as := []) (cs := [0]) (r := x1) (f_clsC inf_X0 q2232 f_cls0) bm_X0_kinds q2230 q2231 (Nat.le_of_ble_eq_true rfl) dL_law_313 h (fun b h => mt_X0_kinds (fx_k2i h (fun v64 σ65 h => ?_) (fun q σ' h => h.elim)))
        refine am_aloadr_n (x := x2) dL_law_316 rfl rfl ?_
        refine fx_callM (Mc := m_X6_kinds) (as := []) bm_X6_kinds q2823 q2824 q2825 (Nat.le_of_ble_eq_true rfl) dL_law_317 h (fun ρ69 μ70 h => mt_X6_kinds (mm_k2i h (fun v68 μ71 h => ?_)))
        refine am_icmp_eq (tgt := 958) dL_law_320 (by decide) (fun c => ?_) (fun c => ?_)
        · have h := h.1 c
          exact am_lss h rfl
        · have h := h.2 c
          refine am_iconst (v := 0) dL_law_323 (by decide) ?_
          exact am_zret rfl rfl dL_law_324 h
      | 7, hj, e =>
        have c : ((v1 &&& 31) : Int32) = 7 := Int32.toInt_inj.mp (e.trans (by decide))
        have h := h.2.2.2.2.2.2.2.1 c
        refine am_tableIn (tgt := 325) dL_law_33 (by rw [c]; decide) (by rw [c]; decide) (by rw [c]; rfl) (by decide) ?_
        refine am_aloadr_n (x := x1) dL_law_325 rfl rfl ?_
        refine am_aloadr_n (x := (some (am_sk G 24))) dL_law_326 rfl rfl ?_
        refine am_iload_n (x := x3) dL_law_327 rfl rfl ?_
        refine am_iconst (v := 1) dL_law_328 (by decide) ?_
        refine am_iadd dL_law_329 ?_
        refine fx_sc dL_law_330 h (fun v72 h => ?_)
        refine am_aloadr_n (x := (some (am_sk G 24))) dL_law_331 rfl rfl ?_
        refine am_iload_n (x := x3) dL_law_332 rfl rfl ?_
        refine am_iconst (v := 2) dL_law_333 (by decide) ?_
        refine am_iadd dL_law_334 ?_
        refine fx_sc dL_law_335 h (fun v73 h => ?_)
        refine fx_callV (Mc := m_X0_kind) (as := [.int v72, .int v73]) (cs := [0]) (r := x1) (f_clsC inf_X0 q2236 f_cls0) bm_X0_kind q2234 q2235 (Nat.le_of_ble_eq_true rfl) dL_law_336 h (fun b h => mt_X0_kind (fx_k2i h (fun v74 σ75 h => ?_) (fun q σ' h => h.elim)))
        refine am_aloadr_n (x := x2) dL_law_339 rfl rfl ?_
        refine am_aloadr_n (x := (some (am_sk G 24))) dL_law_340 rfl rfl ?_
        refine am_iload_n (x := x3) dL_law_341 rfl rfl ?_
        refine am_iconst (v := 1) dL_law_342 (by decide) ?_
        refine am_iadd dL_law_343 ?_
        refine fx_sc dL_law_344 h (fun v78 h => ?_)
        refine am_aloadr_n (x := (some (am_sk G 24))) dL_law_345 rfl rfl ?_
        refine am_iload_n (x := x3) dL_law_346 rfl rfl ?_
        refine am_iconst (v := 2) dL_law_347 (by decide) ?_
        refine am_iadd dL_law_348 ?_
        refine fx_sc dL_law_349 h (fun v79 h => ?_)
        refine fx_callM (Mc := m_X6_kind) (as := [.int v78, .int v79]) bm_X6_kind q2827 q2828 q2829 (Nat.le_of_ble_eq_true rfl) dL_law_350 h (fun ρ81 μ82 h => mt_X6_kind (mm_k2i h (fun v80 μ83 h => ?_)))
        refine am_icmp_eq (tgt := 958) dL_law_353 (by decide) (fun c => ?_) (fun c => ?_)
        · have h := h.1 c
          exact am_lss h rfl
        · have h := h.2 c
          refine am_iconst (v := 0) dL_law_356 (by decide) ?_
          exact am_zret rfl rfl dL_law_357 h
      | 8, hj, e =>
        have c : ((v1 &&& 31) : Int32) = 8 := Int32.toInt_inj.mp (e.trans (by decide))
        have h := h.2.2.2.2.2.2.2.2.1 c
        refine am_tableIn (tgt := 358) dL_law_33 (by rw [c]; decide) (by rw [c]; decide) (by rw [c]; rfl) (by decide) ?_
        refine am_aloadr_n (x := x1) dL_law_358 rfl rfl ?_
        refine am_aloadr_n (x := (some (am_sk G 24))) dL_law_359 rfl rfl ?_
        refine am_iload_n (x := x3) dL_law_360 rfl rfl ?_
        refine am_iconst (v := 1) dL_law_361 (by decide) ?_
        refine am_iadd dL_law_362 ?_
        refine fx_sc dL_law_363 h (fun v84 h => ?_)
        refine fx_callV (Mc := m_X0_create) (as := [.int v84]) (cs := [0]) (r := x1) (f_clsC inf_X0 q2240 f_cls0) bm_X0_create q2238 q2239 (Nat.le_of_ble_eq_true rfl) dL_law_364 h (fun b h => mt_X0_create (fx_k2i h (fun v85 σ86 h => ?_) (fun q σ' h => h.elim)))
        refine am_aloadr_n (x := x2) dL_law_367 rfl rfl ?_
        refine am_aloadr_n (x := (some (am_sk G 24))) dL_law_368 rfl rfl ?_
        refine am_iload_n (x := x3) dL_law_369 rfl rfl ?_
        refine am_iconst (v := 1) dL_law_370 (by decide) ?_
        refine am_iadd dL_law_371 ?_
        refine fx_sc dL_law_372 h (fun v89 h => ?_)
        refine fx_callM (Mc := m_X6_create) (as := [.int v89]) bm_X6_create q2815 q2816 q2817 (Nat.le_of_ble_eq_true rfl) dL_law_373 h (fun ρ91 μ92 h => mt_X6_create (mm_k2i h (fun v90 μ93 h => ?_)))
        refine am_icmp_eq (tgt := 958) dL_law_376 (by decide) (fun c => ?_) (fun c => ?_)
        · have h := h.1 c
          exact am_lss h rfl
        · have h := h.2 c
          refine am_iconst (v := 0) dL_law_379 (by decide) ?_
          exact am_zret rfl rfl dL_law_380 h
      | 9, hj, e =>
        have c : ((v1 &&& 31) : Int32) = 9 := Int32.toInt_inj.mp (e.trans (by decide))
        have h := h.2.2.2.2.2.2.2.2.2.1 c
        refine am_tableIn (tgt := 381) dL_law_33 (by rw [c]; decide) (by rw [c]; decide) (by rw [c]; rfl) (by decide) ?_
        refine am_aloadr_n (x := x1) dL_law_381 rfl rfl ?_
        refine am_aloadr_n (x := (some (am_sk G 24))) dL_law_382 rfl rfl ?_
        refine am_iload_n (x := x3) dL_law_383 rfl rfl ?_
        refine am_iconst (v := 1) dL_law_384 (by decide) ?_
        refine am_iadd dL_law_385 ?_
        refine fx_sc dL_law_386 h (fun v94 h => ?_)
        refine fx_callV (Mc := m_X0_kindOf) (as := [.int v94]) (cs := [0]) (r := x1) (f_clsC inf_X0 q2276 f_cls0) bm_X0_kindOf q2274 q2275 (Nat.le_of_ble_eq_true rfl) dL_law_387 h (fun b h => mt_X0_kindOf (fx_k2i h (fun v95 σ96 h => ?_) (fun q σ' h => h.elim)))
        refine am_aloadr_n (x := x2) dL_law_390 rfl rfl ?_
        refine am_aloadr_n (x := (some (am_sk G 24))) dL_law_391 rfl rfl ?_
        refine am_iload_n (x := x3) dL_law_392 rfl rfl ?_
        refine am_iconst (v := 1) dL_law_393 (by decide) ?_
        refine am_iadd dL_law_394 ?_
        refine fx_sc dL_law_395 h (fun v99 h => ?_)
        refine fx_callM (Mc := m_X6_kindOf) (as := [.int v99]) bm_X6_kindOf q2831 q2832 q2833 (Nat.le_of_ble_eq_true rfl) dL_law_396 h (fun ρ101 μ102 h => mt_X6_kindOf (mm_k2i h (fun v100 μ103 h => ?_)))
        refine am_icmp_eq (tgt := 958) dL_law_399 (by decide) (fun c => ?_) (fun c => ?_)
        · have h := h.1 c
          exact am_lss h rfl
        · have h := h.2 c
          refine am_iconst (v := 0) dL_law_402 (by decide) ?_
          exact am_zret rfl rfl dL_law_403 h
      | 10, hj, e =>
        have c : ((v1 &&& 31) : Int32) = 10 := Int32.toInt_inj.mp (e.trans (by decide))
        have h := h.2.2.2.2.2.2.2.2.2.2.1 c
        refine am_tableIn (tgt := 404) dL_law_33 (by rw [c]; decide) (by rw [c]; decide) (by rw [c]; rfl) (by decide) ?_
        refine am_aloadr_n (x := x1) dL_law_404 rfl rfl ?_
        refine am_aloadr_n (x := (some (am_sk G 24))) dL_law_405 rfl rfl ?_
        refine am_iload_n (x := x3) dL_law_406 rfl rfl ?_
        refine am_iconst (v := 1) dL_law_407 (by decide) ?_
        refine am_iadd dL_law_408 ?_
        refine fx_sc dL_law_409 h (fun v104 h => ?_)
        refine fx_callV (Mc := m_X0_generation) (as := [.int v104]) (cs := [0]) (r := x1) (f_clsC inf_X0 q2280 f_cls0) bm_X0_generation q2278 q2279 (Nat.le_of_ble_eq_true rfl) dL_law_410 h (fun b h => mt_X0_generation (fx_k2i h (fun v105 σ106 h => ?_) (fun q σ' h => h.elim)))
        refine am_aloadr_n (x := x2) dL_law_413 rfl rfl ?_
        refine am_aloadr_n (x := (some (am_sk G 24))) dL_law_414 rfl rfl ?_
        refine am_iload_n (x := x3) dL_law_415 rfl rfl ?_
        refine am_iconst (v := 1) dL_law_416 (by decide) ?_
        refine am_iadd dL_law_417 ?_
        refine fx_sc dL_law_418 h (fun v109 h => ?_)
        refine fx_callM (Mc := m_X6_generation) (as := [.int v109]) bm_X6_generation q2839 q2840 q2841 (Nat.le_of_ble_eq_true rfl) dL_law_419 h (fun ρ111 μ112 h => mt_X6_generation (mm_k2i h (fun v110 μ113 h => ?_)))
        refine am_icmp_eq (tgt := 958) dL_law_422 (by decide) (fun c => ?_) (fun c => ?_)
        · have h := h.1 c
          exact am_lss h rfl
        · have h := h.2 c
          refine am_iconst (v := 0) dL_law_425 (by decide) ?_
          exact am_zret rfl rfl dL_law_426 h
      | 11, hj, e =>
        have c : ((v1 &&& 31) : Int32) = 11 := Int32.toInt_inj.mp (e.trans (by decide))
        have h := h.2.2.2.2.2.2.2.2.2.2.2.1 c
        refine am_tableIn (tgt := 427) dL_law_33 (by rw [c]; decide) (by rw [c]; decide) (by rw [c]; rfl) (by decide) ?_
        refine am_aloadr_n (x := x1) dL_law_427 rfl rfl ?_
        refine am_aloadr_n (x := (some (am_sk G 24))) dL_law_428 rfl rfl ?_
        refine am_iload_n (x := x3) dL_law_429 rfl rfl ?_
        refine am_iconst (v := 1) dL_law_430 (by decide) ?_
        refine am_iadd dL_law_431 ?_
        refine fx_sc dL_law_432 h (fun v114 h => ?_)
        refine am_aloadr_n (x := (some (am_sk G 24))) dL_law_433 rfl rfl ?_
        refine am_iload_n (x := x3) dL_law_434 rfl rfl ?_
        refine am_iconst (v := 2) dL_law_435 (by decide) ?_
        refine am_iadd dL_law_436 ?_
        refine fx_sc dL_law_437 h (fun v115 h => ?_)
        refine fx_callV (Mc := m_X0_has_3) (as := [.int v114, .int v115]) (cs := [0]) (r := x1) (f_clsC inf_X0 q2284 f_cls0) bm_X0_has_3 q2282 q2283 (Nat.le_of_ble_eq_true rfl) dL_law_438 h (fun b h => mt_X0_has_3 (fx_k2i h (fun v116 σ117 h => ?_) (fun q σ' h => h.elim)))
        refine am_aloadr_n (x := x2) dL_law_441 rfl rfl ?_
        refine am_aloadr_n (x := (some (am_sk G 24))) dL_law_442 rfl rfl ?_
        refine am_iload_n (x := x3) dL_law_443 rfl rfl ?_
        refine am_iconst (v := 1) dL_law_444 (by decide) ?_
        refine am_iadd dL_law_445 ?_
        refine fx_sc dL_law_446 h (fun v120 h => ?_)
        refine am_aloadr_n (x := (some (am_sk G 24))) dL_law_447 rfl rfl ?_
        refine am_iload_n (x := x3) dL_law_448 rfl rfl ?_
        refine am_iconst (v := 2) dL_law_449 (by decide) ?_
        refine am_iadd dL_law_450 ?_
        refine fx_sc dL_law_451 h (fun v121 h => ?_)
        refine fx_callM (Mc := m_X6_has) (as := [.int v120, .int v121]) bm_X6_has q2843 q2844 q2845 (Nat.le_of_ble_eq_true rfl) dL_law_452 h (fun ρ123 μ124 h => mt_X6_has (mm_k2i h (fun v122 μ125 h => ?_)))
        refine am_icmp_eq (tgt := 958) dL_law_455 (by decide) (fun c => ?_) (fun c => ?_)
        · have h := h.1 c
          exact am_lss h rfl
        · have h := h.2 c
          refine am_iconst (v := 0) dL_law_458 (by decide) ?_
          exact am_zret rfl rfl dL_law_459 h
      | 12, hj, e =>
        have c : ((v1 &&& 31) : Int32) = 12 := Int32.toInt_inj.mp (e.trans (by decide))
        have h := h.2.2.2.2.2.2.2.2.2.2.2.2.1 c
        refine am_tableIn (tgt := 460) dL_law_33 (by rw [c]; decide) (by rw [c]; decide) (by rw [c]; rfl) (by decide) ?_
        refine am_aloadr_n (x := x1) dL_law_460 rfl rfl ?_
        refine am_aloadr_n (x := (some (am_sk G 24))) dL_law_461 rfl rfl ?_
        refine am_iload_n (x := x3) dL_law_462 rfl rfl ?_
        refine am_iconst (v := 1) dL_law_463 (by decide) ?_
        refine am_iadd dL_law_464 ?_
        refine fx_sc dL_law_465 h (fun v126 h => ?_)
        refine am_aloadr_n (x := (some (am_sk G 24))) dL_law_466 rfl rfl ?_
        refine am_iload_n (x := x3) dL_law_467 rfl rfl ?_
        refine am_iconst (v := 2) dL_law_468 (by decide) ?_
        refine am_iadd dL_law_469 ?_
        refine fx_sc dL_law_470 h (fun v127 h => ?_)
        refine fx_callV (Mc := m_X0_value) (as := [.int v126, .int v127]) (cs := [0]) (r := x1) (f_clsC inf_X0 q2288 f_cls0) bm_X0_value q2286 q2287 (Nat.le_of_ble_eq_true rfl) dL_law_471 h (fun b h => mt_X0_value (fx_k2i h (fun v128 σ129 h => ?_) (fun q σ' h => h.elim)))
        refine am_aloadr_n (x := x2) dL_law_474 rfl rfl ?_
        refine am_aloadr_n (x := (some (am_sk G 24))) dL_law_475 rfl rfl ?_
        refine am_iload_n (x := x3) dL_law_476 rfl rfl ?_
        refine am_iconst (v := 1) dL_law_477 (by decide) ?_
        refine am_iadd dL_law_478 ?_
        refine fx_sc dL_law_479 h (fun v132 h => ?_)
        refine am_aloadr_n (x := (some (am_sk G 24))) dL_law_480 rfl rfl ?_
        refine am_iload_n (x := x3) dL_law_481 rfl rfl ?_
        refine am_iconst (v := 2) dL_law_482 (by decide) ?_
        refine am_iadd dL_law_483 ?_
        refine fx_sc dL_law_484 h (fun v133 h => ?_)
        refine fx_callM (Mc := m_X6_value) (as := [.int v132, .int v133]) bm_X6_value q2850 q2851 q2852 (Nat.le_of_ble_eq_true rfl) dL_law_485 h (fun ρ135 μ136 h => mt_X6_value (mm_k2i h (fun v134 μ137 h => ?_)))
        refine am_icmp_eq (tgt := 958) dL_law_488 (by decide) (fun c => ?_) (fun c => ?_)
        · have h := h.1 c
          exact am_lss h rfl
        · have h := h.2 c
          refine am_iconst (v := 0) dL_law_491 (by decide) ?_
          exact am_zret rfl rfl dL_law_492 h
      | 13, hj, e =>
        have c : ((v1 &&& 31) : Int32) = 13 := Int32.toInt_inj.mp (e.trans (by decide))
        have h := h.2.2.2.2.2.2.2.2.2.2.2.2.2.1 c
        refine am_tableIn (tgt := 493) dL_law_33 (by rw [c]; decide) (by rw [c]; decide) (by rw [c]; rfl) (by decide) ?_
        refine am_aloadr_n (x := x1) dL_law_493 rfl rfl ?_
        refine am_aloadr_n (x := (some (am_sk G 24))) dL_law_494 rfl rfl ?_
        refine am_iload_n (x := x3) dL_law_495 rfl rfl ?_
        refine am_iconst (v := 1) dL_law_496 (by decide) ?_
        refine am_iadd dL_law_497 ?_
        refine fx_sc dL_law_498 h (fun v138 h => ?_)
        refine am_aloadr_n (x := (some (am_sk G 24))) dL_law_499 rfl rfl ?_
        refine am_iload_n (x := x3) dL_law_500 rfl rfl ?_
        refine am_iconst (v := 2) dL_law_501 (by decide) ?_
        refine am_iadd dL_law_502 ?_
        refine fx_sc dL_law_503 h (fun v139 h => ?_)
        refine am_aloadr_n (x := (some (am_sk G 24))) dL_law_504 rfl rfl ?_
        refine am_iload_n (x := x3) dL_law_505 rfl rfl ?_
        refine am_iconst (v := 3) dL_law_506 (by decide) ?_
        refine am_iadd dL_law_507 ?_
        refine fx_sc dL_law_508 h (fun v140 h => ?_)
        refine fx_callV (Mc := m_X0_put) (as := [.int v138, .int v139, .int v140]) (cs := [0]) (r := x1) (f_clsC inf_X0 q2292 f_cls0) bm_X0_put q2290 q2291 (Nat.le_of_ble_eq_true rfl) dL_law_509 h (fun b h => mt_X0_put (fx_k2i h (fun v141 σ142 h => ?_) (fun q σ' h => h.elim)))
        refine am_aloadr_n (x := x2) dL_law_512 rfl rfl ?_
        refine am_aloadr_n (x := (some (am_sk G 24))) dL_law_513 rfl rfl ?_
        refine am_iload_n (x := x3) dL_law_514 rfl rfl ?_
        refine am_iconst (v := 1) dL_law_515 (by decide) ?_
        refine am_iadd dL_law_516 ?_
        refine fx_sc dL_law_517 h (fun v145 h => ?_)
        refine am_aloadr_n (x := (some (am_sk G 24))) dL_law_518 rfl rfl ?_
        refine am_iload_n (x := x3) dL_law_519 rfl rfl ?_
        refine am_iconst (v := 2) dL_law_520 (by decide) ?_
        refine am_iadd dL_law_521 ?_
        refine fx_sc dL_law_522 h (fun v146 h => ?_)
        refine am_aloadr_n (x := (some (am_sk G 24))) dL_law_523 rfl rfl ?_
        refine am_iload_n (x := x3) dL_law_524 rfl rfl ?_
        refine am_iconst (v := 3) dL_law_525 (by decide) ?_
        refine am_iadd dL_law_526 ?_
        refine fx_sc dL_law_527 h (fun v147 h => ?_)
        refine fx_callM (Mc := m_X6_put) (as := [.int v145, .int v146, .int v147]) bm_X6_put q2855 q2856 q2857 (Nat.le_of_ble_eq_true rfl) dL_law_528 h (fun ρ149 μ150 h => mt_X6_put (mm_k2i h (fun v148 μ151 h => ?_)))
        refine am_icmp_eq (tgt := 958) dL_law_531 (by decide) (fun c => ?_) (fun c => ?_)
        · have h := h.1 c
          exact am_lss h rfl
        · have h := h.2 c
          refine am_iconst (v := 0) dL_law_534 (by decide) ?_
          exact am_zret rfl rfl dL_law_535 h
      | 14, hj, e =>
        have c : ((v1 &&& 31) : Int32) = 14 := Int32.toInt_inj.mp (e.trans (by decide))
        have h := h.2.2.2.2.2.2.2.2.2.2.2.2.2.2.1 c
        refine am_tableIn (tgt := 536) dL_law_33 (by rw [c]; decide) (by rw [c]; decide) (by rw [c]; rfl) (by decide) ?_
        refine am_aloadr_n (x := x1) dL_law_536 rfl rfl ?_
        refine am_aloadr_n (x := (some (am_sk G 24))) dL_law_537 rfl rfl ?_
        refine am_iload_n (x := x3) dL_law_538 rfl rfl ?_
        refine am_iconst (v := 1) dL_law_539 (by decide) ?_
        refine am_iadd dL_law_540 ?_
        refine fx_sc dL_law_541 h (fun v152 h => ?_)
        refine am_aloadr_n (x := (some (am_sk G 24))) dL_law_542 rfl rfl ?_
        refine am_iload_n (x := x3) dL_law_543 rfl rfl ?_
        refine am_iconst (v := 2) dL_law_544 (by decide) ?_
        refine am_iadd dL_law_545 ?_
        refine fx_sc dL_law_546 h (fun v153 h => ?_)
        refine fx_callV (Mc := m_X0_fixed) (as := [.int v152, .int v153]) (cs := [0]) (r := x1) (f_clsC inf_X0 q2297 f_cls0) bm_X0_fixed q2295 q2296 (Nat.le_of_ble_eq_true rfl) dL_law_547 h (fun b h => mt_X0_fixed (fx_k2i h (fun v154 σ155 h => ?_) (fun q σ' h => h.elim)))
        refine am_aloadr_n (x := x2) dL_law_550 rfl rfl ?_
        refine am_aloadr_n (x := (some (am_sk G 24))) dL_law_551 rfl rfl ?_
        refine am_iload_n (x := x3) dL_law_552 rfl rfl ?_
        refine am_iconst (v := 1) dL_law_553 (by decide) ?_
        refine am_iadd dL_law_554 ?_
        refine fx_sc dL_law_555 h (fun v158 h => ?_)
        refine am_aloadr_n (x := (some (am_sk G 24))) dL_law_556 rfl rfl ?_
        refine am_iload_n (x := x3) dL_law_557 rfl rfl ?_
        refine am_iconst (v := 2) dL_law_558 (by decide) ?_
        refine am_iadd dL_law_559 ?_
        refine fx_sc dL_law_560 h (fun v159 h => ?_)
        refine fx_callM (Mc := m_X6_fixed) (as := [.int v158, .int v159]) bm_X6_fixed q2859 q2860 q2861 (Nat.le_of_ble_eq_true rfl) dL_law_561 h (fun ρ161 μ162 h => mt_X6_fixed (mm_k2i h (fun v160 μ163 h => ?_)))
        refine am_icmp_eq (tgt := 958) dL_law_564 (by decide) (fun c => ?_) (fun c => ?_)
        · have h := h.1 c
          exact am_lss h rfl
        · have h := h.2 c
          refine am_iconst (v := 0) dL_law_567 (by decide) ?_
          exact am_zret rfl rfl dL_law_568 h
      | 15, hj, e =>
        have c : ((v1 &&& 31) : Int32) = 15 := Int32.toInt_inj.mp (e.trans (by decide))
        have h := h.2.2.2.2.2.2.2.2.2.2.2.2.2.2.2.1 c
        refine am_tableIn (tgt := 569) dL_law_33 (by rw [c]; decide) (by rw [c]; decide) (by rw [c]; rfl) (by decide) ?_
        refine am_aloadr_n (x := x1) dL_law_569 rfl rfl ?_
        refine am_aloadr_n (x := (some (am_sk G 24))) dL_law_570 rfl rfl ?_
        refine am_iload_n (x := x3) dL_law_571 rfl rfl ?_
        refine am_iconst (v := 1) dL_law_572 (by decide) ?_
        refine am_iadd dL_law_573 ?_
        refine fx_sc dL_law_574 h (fun v164 h => ?_)
        refine am_aloadr_n (x := (some (am_sk G 24))) dL_law_575 rfl rfl ?_
        refine am_iload_n (x := x3) dL_law_576 rfl rfl ?_
        refine am_iconst (v := 2) dL_law_577 (by decide) ?_
        refine am_iadd dL_law_578 ?_
        refine fx_sc dL_law_579 h (fun v165 h => ?_)
        refine am_aloadr_n (x := (some (am_sk G 24))) dL_law_580 rfl rfl ?_
        refine am_iload_n (x := x3) dL_law_581 rfl rfl ?_
        refine am_iconst (v := 3) dL_law_582 (by decide) ?_
        refine am_iadd dL_law_583 ?_
        refine fx_sc dL_law_584 h (fun v166 h => ?_)
        refine fx_callV (Mc := m_X0_act) (as := [.int v164, .int v165, .int v166]) (cs := [0]) (r := x1) (f_clsC inf_X0 q2302 f_cls0) bm_X0_act q2300 q2301 (Nat.le_of_ble_eq_true rfl) dL_law_585 h (fun b h => mt_X0_act (fx_k2i h (fun v167 σ168 h => ?_) (fun q σ' h => h.elim)))
        refine am_aloadr_n (x := x2) dL_law_588 rfl rfl ?_
        refine am_aloadr_n (x := (some (am_sk G 24))) dL_law_589 rfl rfl ?_
        refine am_iload_n (x := x3) dL_law_590 rfl rfl ?_
        refine am_iconst (v := 1) dL_law_591 (by decide) ?_
        refine am_iadd dL_law_592 ?_
        refine fx_sc dL_law_593 h (fun v171 h => ?_)
        refine am_aloadr_n (x := (some (am_sk G 24))) dL_law_594 rfl rfl ?_
        refine am_iload_n (x := x3) dL_law_595 rfl rfl ?_
        refine am_iconst (v := 2) dL_law_596 (by decide) ?_
        refine am_iadd dL_law_597 ?_
        refine fx_sc dL_law_598 h (fun v172 h => ?_)
        refine am_aloadr_n (x := (some (am_sk G 24))) dL_law_599 rfl rfl ?_
        refine am_iload_n (x := x3) dL_law_600 rfl rfl ?_
        refine am_iconst (v := 3) dL_law_601 (by decide) ?_
        refine am_iadd dL_law_602 ?_
        refine fx_sc dL_law_603 h (fun v173 h => ?_)
        refine fx_callM (Mc := m_X6_act) (as := [.int v171, .int v172, .int v173]) bm_X6_act q2871 q2872 q2873 (Nat.le_of_ble_eq_true rfl) dL_law_604 h (fun ρ175 μ176 h => mt_X6_act (mm_k2i h (fun v174 μ177 h => ?_)))
        refine am_icmp_eq (tgt := 958) dL_law_607 (by decide) (fun c => ?_) (fun c => ?_)
        · have h := h.1 c
          exact am_lss h rfl
        · have h := h.2 c
          refine am_iconst (v := 0) dL_law_610 (by decide) ?_
          exact am_zret rfl rfl dL_law_611 h
      | 16, hj, e =>
        have c : ((v1 &&& 31) : Int32) = 16 := Int32.toInt_inj.mp (e.trans (by decide))
        have h := h.2.2.2.2.2.2.2.2.2.2.2.2.2.2.2.2.1 c
        refine am_tableIn (tgt := 612) dL_law_33 (by rw [c]; decide) (by rw [c]; decide) (by rw [c]; rfl) (by decide) ?_
        refine am_aloadr_n (x := x1) dL_law_612 rfl rfl ?_
        refine am_aloadr_n (x := (some (am_sk G 24))) dL_law_613 rfl rfl ?_
        refine am_iload_n (x := x3) dL_law_614 rfl rfl ?_
        refine am_iconst (v := 1) dL_law_615 (by decide) ?_
        refine am_iadd dL_law_616 ?_
        refine fx_sc dL_law_617 h (fun v178 h => ?_)
        refine fx_callV (Mc := m_X0_told) (as := [.int v178]) (cs := [0]) (r := x1) (f_clsC inf_X0 q2306 f_cls0) bm_X0_told q2304 q2305 (Nat.le_of_ble_eq_true rfl) dL_law_618 h (fun b h => mt_X0_told (fx_k2i h (fun v179 σ180 h => ?_) (fun q σ' h => h.elim)))
        refine am_aloadr_n (x := x2) dL_law_621 rfl rfl ?_
        refine am_aloadr_n (x := (some (am_sk G 24))) dL_law_622 rfl rfl ?_
        refine am_iload_n (x := x3) dL_law_623 rfl rfl ?_
        refine am_iconst (v := 1) dL_law_624 (by decide) ?_
        refine am_iadd dL_law_625 ?_
        refine fx_sc dL_law_626 h (fun v183 h => ?_)
        refine fx_callM (Mc := m_X6_told) (as := [.int v183]) bm_X6_told q2946 q2947 q2948 (Nat.le_of_ble_eq_true rfl) dL_law_627 h (fun ρ185 μ186 h => mt_X6_told (mm_k2i h (fun v184 μ187 h => ?_)))
        refine am_icmp_eq (tgt := 958) dL_law_630 (by decide) (fun c => ?_) (fun c => ?_)
        · have h := h.1 c
          exact am_lss h rfl
        · have h := h.2 c
          refine am_iconst (v := 0) dL_law_633 (by decide) ?_
          exact am_zret rfl rfl dL_law_634 h
      | 17, hj, e =>
        have c : ((v1 &&& 31) : Int32) = 17 := Int32.toInt_inj.mp (e.trans (by decide))
        have h := h.2.2.2.2.2.2.2.2.2.2.2.2.2.2.2.2.2.1 c
        refine am_tableIn (tgt := 635) dL_law_33 (by rw [c]; decide) (by rw [c]; decide) (by rw [c]; rfl) (by decide) ?_
        refine am_aloadr_n (x := x1) dL_law_635 rfl rfl ?_
        refine am_aloadr_n (x := (some (am_sk G 24))) dL_law_636 rfl rfl ?_
        refine am_iload_n (x := x3) dL_law_637 rfl rfl ?_
        refine am_iconst (v := 1) dL_law_638 (by decide) ?_
        refine am_iadd dL_law_639 ?_
        refine fx_sc dL_law_640 h (fun v188 h => ?_)
        refine fx_callV (Mc := m_X0_wake) (as := [.int v188]) (cs := [0]) (r := x1) (f_clsC inf_X0 q380 f_cls0) bm_X0_wake q378 q379 (Nat.le_of_ble_eq_true rfl) dL_law_641 h (fun b h => mt_X0_wake (fx_k2i h (fun v189 σ190 h => ?_) (fun q σ' h => h.elim)))
        refine am_aloadr_n (x := x2) dL_law_644 rfl rfl ?_
        refine am_aloadr_n (x := (some (am_sk G 24))) dL_law_645 rfl rfl ?_
        refine am_iload_n (x := x3) dL_law_646 rfl rfl ?_
        refine am_iconst (v := 1) dL_law_647 (by decide) ?_
        refine am_iadd dL_law_648 ?_
        refine fx_sc dL_law_649 h (fun v193 h => ?_)
        refine fx_callM (Mc := m_X6_wake) (as := [.int v193]) bm_X6_wake q2950 q2951 q2952 (Nat.le_of_ble_eq_true rfl) dL_law_650 h (fun ρ195 μ196 h => mt_X6_wake (mm_k2i h (fun v194 μ197 h => ?_)))
        refine am_icmp_eq (tgt := 958) dL_law_653 (by decide) (fun c => ?_) (fun c => ?_)
        · have h := h.1 c
          exact am_lss h rfl
        · have h := h.2 c
          refine am_iconst (v := 0) dL_law_656 (by decide) ?_
          exact am_zret rfl rfl dL_law_657 h
      | 18, hj, e =>
        have c : ((v1 &&& 31) : Int32) = 18 := Int32.toInt_inj.mp (e.trans (by decide))
        have h := h.2.2.2.2.2.2.2.2.2.2.2.2.2.2.2.2.2.2.1 c
        refine am_tableIn (tgt := 658) dL_law_33 (by rw [c]; decide) (by rw [c]; decide) (by rw [c]; rfl) (by decide) ?_
        refine am_aloadr_n (x := x1) dL_law_658 rfl rfl ?_
        refine fx_callV (Mc := m_X0_beat) (as := []) (cs := [0]) (r := x1) (f_clsC inf_X0 q384 f_cls0) bm_X0_beat q382 q383 (Nat.le_of_ble_eq_true rfl) dL_law_659 h (fun b h => mt_X0_beat (fx_k2i h (fun v198 σ199 h => ?_) (fun q σ' h => h.elim)))
        refine am_aloadr_n (x := x2) dL_law_662 rfl rfl ?_
        refine fx_callM (Mc := m_X6_beat) (as := []) bm_X6_beat q2954 q2955 q2956 (Nat.le_of_ble_eq_true rfl) dL_law_663 h (fun ρ203 μ204 h => mt_X6_beat (mm_k2i h (fun v202 μ205 h => ?_)))
        refine am_icmp_eq (tgt := 958) dL_law_666 (by decide) (fun c => ?_) (fun c => ?_)
        · have h := h.1 c
          exact am_lss h rfl
        · have h := h.2 c
          refine am_iconst (v := 0) dL_law_669 (by decide) ?_
          exact am_zret rfl rfl dL_law_670 h
      | 19, hj, e =>
        have c : ((v1 &&& 31) : Int32) = 19 := Int32.toInt_inj.mp (e.trans (by decide))
        have h := h.2.2.2.2.2.2.2.2.2.2.2.2.2.2.2.2.2.2.2.1 c
        refine am_tableIn (tgt := 671) dL_law_33 (by rw [c]; decide) (by rw [c]; decide) (by rw [c]; rfl) (by decide) ?_
        refine am_aloadr_n (x := x1) dL_law_671 rfl rfl ?_
        refine am_aloadr_n (x := (some (am_sk G 24))) dL_law_672 rfl rfl ?_
        refine am_iload_n (x := x3) dL_law_673 rfl rfl ?_
        refine am_iconst (v := 1) dL_law_674 (by decide) ?_
        refine am_iadd dL_law_675 ?_
        refine fx_sc dL_law_676 h (fun v206 h => ?_)
        refine fx_callV (Mc := m_X0_outcome) (as := [.int v206]) (cs := [0]) (r := x1) (f_clsC inf_X0 q1047 f_cls0) bm_X0_outcome q1045 q1046 (Nat.le_of_ble_eq_true rfl) dL_law_677 h (fun b h => mt_X0_outcome (fx_k2i h (fun v207 σ208 h => ?_) (fun q σ' h => h.elim)))
        refine am_aloadr_n (x := x2) dL_law_680 rfl rfl ?_
        refine am_aloadr_n (x := (some (am_sk G 24))) dL_law_681 rfl rfl ?_
        refine am_iload_n (x := x3) dL_law_682 rfl rfl ?_
        refine am_iconst (v := 1) dL_law_683 (by decide) ?_
        refine am_iadd dL_law_684 ?_
        refine fx_sc dL_law_685 h (fun v211 h => ?_)
        refine fx_callM (Mc := m_X6_outcome) (as := [.int v211]) bm_X6_outcome q3034 q3035 q3036 (Nat.le_of_ble_eq_true rfl) dL_law_686 h (fun ρ213 μ214 h => mt_X6_outcome (mm_k2i h (fun v212 μ215 h => ?_)))
        refine am_icmp_eq (tgt := 958) dL_law_689 (by decide) (fun c => ?_) (fun c => ?_)
        · have h := h.1 c
          exact am_lss h rfl
        · have h := h.2 c
          refine am_iconst (v := 0) dL_law_692 (by decide) ?_
          exact am_zret rfl rfl dL_law_693 h
      | 20, hj, e =>
        have c : ((v1 &&& 31) : Int32) = 20 := Int32.toInt_inj.mp (e.trans (by decide))
        have h := h.2.2.2.2.2.2.2.2.2.2.2.2.2.2.2.2.2.2.2.2.1 c
        refine am_tableIn (tgt := 694) dL_law_33 (by rw [c]; decide) (by rw [c]; decide) (by rw [c]; rfl) (by decide) ?_
        refine am_aloadr_n (x := x1) dL_law_694 rfl rfl ?_
        refine am_aloadr_n (x := (some (am_sk G 24))) dL_law_695 rfl rfl ?_
        refine am_iload_n (x := x3) dL_law_696 rfl rfl ?_
        refine am_iconst (v := 1) dL_law_697 (by decide) ?_
        refine am_iadd dL_law_698 ?_
        refine fx_sc dL_law_699 h (fun v216 h => ?_)
        refine am_aloadr_n (x := (some (am_sk G 24))) dL_law_700 rfl rfl ?_
        refine am_iload_n (x := x3) dL_law_701 rfl rfl ?_
        refine am_iconst (v := 2) dL_law_702 (by decide) ?_
        refine am_iadd dL_law_703 ?_
        refine fx_sc dL_law_704 h (fun v217 h => ?_)
        refine fx_callV (Mc := m_X0_ran) (as := [.int v216, .int v217]) (cs := [0]) (r := x1) (f_clsC inf_X0 q1051 f_cls0) bm_X0_ran q1049 q1050 (Nat.le_of_ble_eq_true rfl) dL_law_705 h (fun b h => mt_X0_ran (fx_k2i h (fun v218 σ219 h => ?_) (fun q σ' h => h.elim)))
        refine am_aloadr_n (x := x2) dL_law_708 rfl rfl ?_
        refine am_aloadr_n (x := (some (am_sk G 24))) dL_law_709 rfl rfl ?_
        refine am_iload_n (x := x3) dL_law_710 rfl rfl ?_
        refine am_iconst (v := 1) dL_law_711 (by decide) ?_
        refine am_iadd dL_law_712 ?_
        refine fx_sc dL_law_713 h (fun v222 h => ?_)
        refine am_aloadr_n (x := (some (am_sk G 24))) dL_law_714 rfl rfl ?_
        refine am_iload_n (x := x3) dL_law_715 rfl rfl ?_
        refine am_iconst (v := 2) dL_law_716 (by decide) ?_
        refine am_iadd dL_law_717 ?_
        refine fx_sc dL_law_718 h (fun v223 h => ?_)
        refine fx_callM (Mc := m_X6_ran_2) (as := [.int v222, .int v223]) bm_X6_ran_2 q3038 q3039 q3040 (Nat.le_of_ble_eq_true rfl) dL_law_719 h (fun ρ225 μ226 h => mt_X6_ran_2 (mm_k2i h (fun v224 μ227 h => ?_)))
        refine am_icmp_eq (tgt := 958) dL_law_722 (by decide) (fun c => ?_) (fun c => ?_)
        · have h := h.1 c
          exact am_lss h rfl
        · have h := h.2 c
          refine am_iconst (v := 0) dL_law_725 (by decide) ?_
          exact am_zret rfl rfl dL_law_726 h
      | 21, hj, e =>
        have c : ((v1 &&& 31) : Int32) = 21 := Int32.toInt_inj.mp (e.trans (by decide))
        have h := h.2.2.2.2.2.2.2.2.2.2.2.2.2.2.2.2.2.2.2.2.2.1 c
        refine am_tableIn (tgt := 727) dL_law_33 (by rw [c]; decide) (by rw [c]; decide) (by rw [c]; rfl) (by decide) ?_
        refine am_aloadr_n (x := x1) dL_law_727 rfl rfl ?_
        refine am_aloadr_n (x := (some (am_sk G 24))) dL_law_728 rfl rfl ?_
        refine am_iload_n (x := x3) dL_law_729 rfl rfl ?_
        refine am_iconst (v := 1) dL_law_730 (by decide) ?_
        refine am_iadd dL_law_731 ?_
        refine fx_sc dL_law_732 h (fun v228 h => ?_)
        refine am_aloadr_n (x := (some (am_sk G 24))) dL_law_733 rfl rfl ?_
        refine am_iload_n (x := x3) dL_law_734 rfl rfl ?_
        refine am_iconst (v := 2) dL_law_735 (by decide) ?_
        refine am_iadd dL_law_736 ?_
        refine fx_sc dL_law_737 h (fun v229 h => ?_)
        refine am_aloadr_n (x := (some (am_sk G 24))) dL_law_738 rfl rfl ?_
        refine am_iload_n (x := x3) dL_law_739 rfl rfl ?_
        refine am_iconst (v := 3) dL_law_740 (by decide) ?_
        refine am_iadd dL_law_741 ?_
        refine fx_sc dL_law_742 h (fun v230 h => ?_)
        refine fx_callV (Mc := m_X0_begin) (as := [.int v228, .int v229, .int v230]) (cs := [0]) (r := x1) (f_clsC inf_X0 q285 f_cls0) bm_X0_begin q283 q284 (Nat.le_of_ble_eq_true rfl) dL_law_743 h (fun b h => mt_X0_begin (fx_k2i h (fun v231 σ232 h => ?_) (fun q σ' h => h.elim)))
        refine am_aloadr_n (x := x2) dL_law_746 rfl rfl ?_
        refine am_aloadr_n (x := (some (am_sk G 24))) dL_law_747 rfl rfl ?_
        refine am_iload_n (x := x3) dL_law_748 rfl rfl ?_
        refine am_iconst (v := 1) dL_law_749 (by decide) ?_
        refine am_iadd dL_law_750 ?_
        refine fx_sc dL_law_751 h (fun v235 h => ?_)
        refine am_aloadr_n (x := (some (am_sk G 24))) dL_law_752 rfl rfl ?_
        refine am_iload_n (x := x3) dL_law_753 rfl rfl ?_
        refine am_iconst (v := 2) dL_law_754 (by decide) ?_
        refine am_iadd dL_law_755 ?_
        refine fx_sc dL_law_756 h (fun v236 h => ?_)
        refine am_aloadr_n (x := (some (am_sk G 24))) dL_law_757 rfl rfl ?_
        refine am_iload_n (x := x3) dL_law_758 rfl rfl ?_
        refine am_iconst (v := 3) dL_law_759 (by decide) ?_
        refine am_iadd dL_law_760 ?_
        refine fx_sc dL_law_761 h (fun v237 h => ?_)
        refine fx_callM (Mc := m_X6_begin_2) (as := [.int v235, .int v236, .int v237]) bm_X6_begin_2 q3042 q3043 q3044 (Nat.le_of_ble_eq_true rfl) dL_law_762 h (fun ρ239 μ240 h => mt_X6_begin_2 (mm_k2i h (fun v238 μ241 h => ?_)))
        refine am_icmp_eq (tgt := 958) dL_law_765 (by decide) (fun c => ?_) (fun c => ?_)
        · have h := h.1 c
          exact am_lss h rfl
        · have h := h.2 c
          refine am_iconst (v := 0) dL_law_768 (by decide) ?_
          exact am_zret rfl rfl dL_law_769 h
      | 22, hj, e =>
        have c : ((v1 &&& 31) : Int32) = 22 := Int32.toInt_inj.mp (e.trans (by decide))
        have h := h.2.2.2.2.2.2.2.2.2.2.2.2.2.2.2.2.2.2.2.2.2.2.1 c
        refine am_tableIn (tgt := 770) dL_law_33 (by rw [c]; decide) (by rw [c]; decide) (by rw [c]; rfl) (by decide) ?_
        refine am_aloadr_n (x := x1) dL_law_770 rfl rfl ?_
        refine am_aloadr_n (x := (some (am_sk G 24))) dL_law_771 rfl rfl ?_
        refine am_iload_n (x := x3) dL_law_772 rfl rfl ?_
        refine am_iconst (v := 1) dL_law_773 (by decide) ?_
        refine am_iadd dL_law_774 ?_
        refine fx_sc dL_law_775 h (fun v242 h => ?_)
        refine am_aloadr_n (x := (some (am_sk G 24))) dL_law_776 rfl rfl ?_
        refine am_iload_n (x := x3) dL_law_777 rfl rfl ?_
        refine am_iconst (v := 2) dL_law_778 (by decide) ?_
        refine am_iadd dL_law_779 ?_
        refine fx_sc dL_law_780 h (fun v243 h => ?_)
        refine fx_callV (Mc := m_X0_under) (as := [.int v242, .int v243]) (cs := [0]) (r := x1) (f_clsC inf_X0 q368 f_cls0) bm_X0_under q366 q367 (Nat.le_of_ble_eq_true rfl) dL_law_781 h (fun b h => mt_X0_under (fx_k2i h (fun v244 σ245 h => ?_) (fun q σ' h => h.elim)))
        refine am_aloadr_n (x := x2) dL_law_784 rfl rfl ?_
        refine am_aloadr_n (x := (some (am_sk G 24))) dL_law_785 rfl rfl ?_
        refine am_iload_n (x := x3) dL_law_786 rfl rfl ?_
        refine am_iconst (v := 1) dL_law_787 (by decide) ?_
        refine am_iadd dL_law_788 ?_
        refine fx_sc dL_law_789 h (fun v248 h => ?_)
        refine am_aloadr_n (x := (some (am_sk G 24))) dL_law_790 rfl rfl ?_
        refine am_iload_n (x := x3) dL_law_791 rfl rfl ?_
        refine am_iconst (v := 2) dL_law_792 (by decide) ?_
        refine am_iadd dL_law_793 ?_
        refine fx_sc dL_law_794 h (fun v249 h => ?_)
        refine fx_callM (Mc := m_X6_under) (as := [.int v248, .int v249]) bm_X6_under q3046 q3047 q3048 (Nat.le_of_ble_eq_true rfl) dL_law_795 h (fun ρ251 μ252 h => mt_X6_under (mm_k2i h (fun v250 μ253 h => ?_)))
        refine am_icmp_eq (tgt := 958) dL_law_798 (by decide) (fun c => ?_) (fun c => ?_)
        · have h := h.1 c
          exact am_lss h rfl
        · have h := h.2 c
          refine am_iconst (v := 0) dL_law_801 (by decide) ?_
          exact am_zret rfl rfl dL_law_802 h
      | 23, hj, e =>
        have c : ((v1 &&& 31) : Int32) = 23 := Int32.toInt_inj.mp (e.trans (by decide))
        have h := h.2.2.2.2.2.2.2.2.2.2.2.2.2.2.2.2.2.2.2.2.2.2.2.1 c
        refine am_tableIn (tgt := 803) dL_law_33 (by rw [c]; decide) (by rw [c]; decide) (by rw [c]; rfl) (by decide) ?_
        refine am_aloadr_n (x := x1) dL_law_803 rfl rfl ?_
        refine am_aloadr_n (x := (some (am_sk G 24))) dL_law_804 rfl rfl ?_
        refine am_iload_n (x := x3) dL_law_805 rfl rfl ?_
        refine am_iconst (v := 1) dL_law_806 (by decide) ?_
        refine am_iadd dL_law_807 ?_
        refine fx_sc dL_law_808 h (fun v254 h => ?_)
        refine am_aloadr_n (x := (some (am_sk G 24))) dL_law_809 rfl rfl ?_
        refine am_iload_n (x := x3) dL_law_810 rfl rfl ?_
        refine am_iconst (v := 2) dL_law_811 (by decide) ?_
        refine am_iadd dL_law_812 ?_
        refine fx_sc dL_law_813 h (fun v255 h => ?_)
        refine am_if_eq (tgt := 821) dL_law_814 (by decide) (fun c => ?_) (fun c => ?_)
        · have h := h.1 c
          refine am_iconst (v := 0) dL_law_821 (by decide) ?_
          exact am_lss h rfl
        · have h := h.2 c
          refine am_iconst (v := 1) dL_law_817 (by decide) ?_
          refine am_goto (tgt := 822) dL_law_818 (by decide) ?_
          exact am_lss h rfl
      | 24, hj, e =>
        have c : ((v1 &&& 31) : Int32) = 24 := Int32.toInt_inj.mp (e.trans (by decide))
        have h := h.2.2.2.2.2.2.2.2.2.2.2.2.2.2.2.2.2.2.2.2.2.2.2.2.1 c
        refine am_tableIn (tgt := 852) dL_law_33 (by rw [c]; decide) (by rw [c]; decide) (by rw [c]; rfl) (by decide) ?_
        refine am_aloadr_n (x := x1) dL_law_852 rfl rfl ?_
        refine am_aloadr_n (x := (some (am_sk G 24))) dL_law_853 rfl rfl ?_
        refine am_iload_n (x := x3) dL_law_854 rfl rfl ?_
        refine am_iconst (v := 1) dL_law_855 (by decide) ?_
        refine am_iadd dL_law_856 ?_
        refine fx_sc dL_law_857 h (fun v256 h => ?_)
        refine fx_callV (Mc := m_X0_apply) (as := [.int v256]) (cs := [0]) (r := x1) (f_clsC inf_X0 q1039 f_cls0) bm_X0_apply q1037 q1038 (Nat.le_of_ble_eq_true rfl) dL_law_858 h (fun b h => mt_X0_apply (fx_k2i h (fun v257 σ258 h => ?_) (fun q σ' h => h.elim)))
        refine am_aloadr_n (x := x2) dL_law_861 rfl rfl ?_
        refine am_aloadr_n (x := (some (am_sk G 24))) dL_law_862 rfl rfl ?_
        refine am_iload_n (x := x3) dL_law_863 rfl rfl ?_
        refine am_iconst (v := 1) dL_law_864 (by decide) ?_
        refine am_iadd dL_law_865 ?_
        refine fx_sc dL_law_866 h (fun v261 h => ?_)
        refine fx_callM (Mc := m_X6_apply) (as := [.int v261]) bm_X6_apply q3054 q3055 q3056 (Nat.le_of_ble_eq_true rfl) dL_law_867 h (fun ρ263 μ264 h => mt_X6_apply (mm_k2i h (fun v262 μ265 h => ?_)))
        refine am_icmp_eq (tgt := 958) dL_law_870 (by decide) (fun c => ?_) (fun c => ?_)
        · have h := h.1 c
          exact am_lss h rfl
        · have h := h.2 c
          refine am_iconst (v := 0) dL_law_873 (by decide) ?_
          exact am_zret rfl rfl dL_law_874 h
      | 25, hj, e =>
        have c : ((v1 &&& 31) : Int32) = 25 := Int32.toInt_inj.mp (e.trans (by decide))
        have h := h.2.2.2.2.2.2.2.2.2.2.2.2.2.2.2.2.2.2.2.2.2.2.2.2.2.1 c
        refine am_tableIn (tgt := 875) dL_law_33 (by rw [c]; decide) (by rw [c]; decide) (by rw [c]; rfl) (by decide) ?_
        refine am_aloadr_n (x := x1) dL_law_875 rfl rfl ?_
        refine am_aloadr_n (x := (some (am_sk G 24))) dL_law_876 rfl rfl ?_
        refine am_iload_n (x := x3) dL_law_877 rfl rfl ?_
        refine am_iconst (v := 1) dL_law_878 (by decide) ?_
        refine am_iadd dL_law_879 ?_
        refine fx_sc dL_law_880 h (fun v266 h => ?_)
        refine fx_callV (Mc := m_X0_applied) (as := [.int v266]) (cs := [0]) (r := x1) (f_clsC inf_X0 q1043 f_cls0) bm_X0_applied q1041 q1042 (Nat.le_of_ble_eq_true rfl) dL_law_881 h (fun b h => mt_X0_applied (fx_k2i h (fun v267 σ268 h => ?_) (fun q σ' h => h.elim)))
        refine am_aloadr_n (x := x2) dL_law_884 rfl rfl ?_
        refine am_aloadr_n (x := (some (am_sk G 24))) dL_law_885 rfl rfl ?_
        refine am_iload_n (x := x3) dL_law_886 rfl rfl ?_
        refine am_iconst (v := 1) dL_law_887 (by decide) ?_
        refine am_iadd dL_law_888 ?_
        refine fx_sc dL_law_889 h (fun v271 h => ?_)
        refine fx_callM (Mc := m_X6_applied) (as := [.int v271]) bm_X6_applied q3058 q3059 q3060 (Nat.le_of_ble_eq_true rfl) dL_law_890 h (fun ρ273 μ274 h => mt_X6_applied (mm_k2i h (fun v272 μ275 h => ?_)))
        refine am_icmp_eq (tgt := 958) dL_law_893 (by decide) (fun c => ?_) (fun c => ?_)
        · have h := h.1 c
          exact am_lss h rfl
        · have h := h.2 c
          refine am_iconst (v := 0) dL_law_896 (by decide) ?_
          exact am_zret rfl rfl dL_law_897 h
      | 26, hj, e =>
        have c : ((v1 &&& 31) : Int32) = 26 := Int32.toInt_inj.mp (e.trans (by decide))
        have h := h.2.2.2.2.2.2.2.2.2.2.2.2.2.2.2.2.2.2.2.2.2.2.2.2.2.2.1 c
        refine am_tableIn (tgt := 898) dL_law_33 (by rw [c]; decide) (by rw [c]; decide) (by rw [c]; rfl) (by decide) ?_
        refine am_aloadr_n (x := x1) dL_law_898 rfl rfl ?_
        refine am_aloadr_n (x := (some (am_sk G 24))) dL_law_899 rfl rfl ?_
        refine am_iload_n (x := x3) dL_law_900 rfl rfl ?_
        refine am_iconst (v := 1) dL_law_901 (by decide) ?_
        refine am_iadd dL_law_902 ?_
        refine fx_sc dL_law_903 h (fun v276 h => ?_)
        refine fx_callV (Mc := m_X0_refusal) (as := [.int v276]) (cs := [0]) (r := x1) (f_clsC inf_X0 q1035 f_cls0) bm_X0_refusal q1033 q1034 (Nat.le_of_ble_eq_true rfl) dL_law_904 h (fun b h => mt_X0_refusal (fx_k2i h (fun v277 σ278 h => ?_) (fun q σ' h => h.elim)))
        refine am_aloadr_n (x := x2) dL_law_907 rfl rfl ?_
        refine am_aloadr_n (x := (some (am_sk G 24))) dL_law_908 rfl rfl ?_
        refine am_iload_n (x := x3) dL_law_909 rfl rfl ?_
        refine am_iconst (v := 1) dL_law_910 (by decide) ?_
        refine am_iadd dL_law_911 ?_
        refine fx_sc dL_law_912 h (fun v281 h => ?_)
        refine fx_callM (Mc := m_X6_refusal) (as := [.int v281]) bm_X6_refusal q3062 q3063 q3064 (Nat.le_of_ble_eq_true rfl) dL_law_913 h (fun ρ283 μ284 h => mt_X6_refusal (mm_k2i h (fun v282 μ285 h => ?_)))
        refine am_icmp_eq (tgt := 958) dL_law_916 (by decide) (fun c => ?_) (fun c => ?_)
        · have h := h.1 c
          exact am_lss h rfl
        · have h := h.2 c
          refine am_iconst (v := 0) dL_law_919 (by decide) ?_
          exact am_zret rfl rfl dL_law_920 h
      | 27, hj, e =>
        have c : ((v1 &&& 31) : Int32) = 27 := Int32.toInt_inj.mp (e.trans (by decide))
        have h := h.2.2.2.2.2.2.2.2.2.2.2.2.2.2.2.2.2.2.2.2.2.2.2.2.2.2.2.1 c
        refine am_tableIn (tgt := 921) dL_law_33 (by rw [c]; decide) (by rw [c]; decide) (by rw [c]; rfl) (by decide) ?_
        refine am_aloadr_n (x := x1) dL_law_921 rfl rfl ?_
        refine fx_callV (Mc := m_X0_back) (as := []) (cs := [0]) (r := x1) (f_clsC inf_X0 q216 f_cls0) bm_X0_back q214 q215 (Nat.le_of_ble_eq_true rfl) dL_law_922 h (fun b h => mt_X0_back (fx_k2i h (fun v286 σ287 h => ?_) (fun q σ' h => h.elim)))
        refine am_aloadr_n (x := x2) dL_law_925 rfl rfl ?_
        refine fx_callM (Mc := m_X6_back) (as := []) bm_X6_back q3066 q3067 q3068 (Nat.le_of_ble_eq_true rfl) dL_law_926 h (fun ρ291 μ292 h => mt_X6_back (mm_k2i h (fun v290 μ293 h => ?_)))
        refine am_icmp_eq (tgt := 958) dL_law_929 (by decide) (fun c => ?_) (fun c => ?_)
        · have h := h.1 c
          exact am_lss h rfl
        · have h := h.2 c
          refine am_iconst (v := 0) dL_law_932 (by decide) ?_
          exact am_zret rfl rfl dL_law_933 h
      | 28, hj, e =>
        have c : ((v1 &&& 31) : Int32) = 28 := Int32.toInt_inj.mp (e.trans (by decide))
        have h := h.2.2.2.2.2.2.2.2.2.2.2.2.2.2.2.2.2.2.2.2.2.2.2.2.2.2.2.2.1 c
        refine am_tableIn (tgt := 934) dL_law_33 (by rw [c]; decide) (by rw [c]; decide) (by rw [c]; rfl) (by decide) ?_
        refine am_aloadr_n (x := x1) dL_law_934 rfl rfl ?_
        refine am_aloadr_n (x := (some (am_sk G 24))) dL_law_935 rfl rfl ?_
        refine am_iload_n (x := x3) dL_law_936 rfl rfl ?_
        refine am_iconst (v := 1) dL_law_937 (by decide) ?_
        refine am_iadd dL_law_938 ?_
        refine fx_sc dL_law_939 h (fun v294 h => ?_)
        refine fx_callV (Mc := m_X0_sum) (as := [.int v294]) (cs := [0]) (r := x1) (f_clsC inf_X0 q2310 f_cls0) bm_X0_sum q2308 q2309 (Nat.le_of_ble_eq_true rfl) dL_law_940 h (fun b h => mt_X0_sum (fx_k2l h (fun v295 σ296 h => ?_) (fun q σ' h => h.elim)))
        refine am_aloadr_n (x := x2) dL_law_943 rfl rfl ?_
        refine am_aloadr_n (x := (some (am_sk G 24))) dL_law_944 rfl rfl ?_
        refine am_iload_n (x := x3) dL_law_945 rfl rfl ?_
        refine am_iconst (v := 1) dL_law_946 (by decide) ?_
        refine am_iadd dL_law_947 ?_
        refine fx_sc dL_law_948 h (fun v299 h => ?_)
        refine fx_callM (Mc := m_X6_sum_2) (as := [.int v299]) bm_X6_sum_2 q2867 q2868 q2869 (Nat.le_of_ble_eq_true rfl) dL_law_949 h (fun ρ301 μ302 h => mt_X6_sum_2 (mm_k2l h (fun v300 μ303 h => ?_)))
        refine am_lcmp dL_law_952 ?_
        refine am_if_eq (tgt := 958) dL_law_953 (by decide) (fun c => ?_) (fun c => ?_)
        · have h := h.1 c
          exact am_lss h rfl
        · have h := h.2 c
          refine am_iconst (v := 0) dL_law_956 (by decide) ?_
          exact am_zret rfl rfl dL_law_957 h
      | j + 29, hj, e => exact absurd hj (by omega)
theorem B_L_law_822_f {G : am_G} {d : Nat} {x1 : Option Nat} {x2 : Option Nat} {x3 : Int32} {s0 : Int32} {s1 : Int32} {s2 : Option Nat} {σ : am_S} {Q : Int32 → am_S → Prop} (h : f_o σ s2 [0] (fun b => W_X0_forbid G d b s1 s0 σ (fun v1 σ2 => f_sc G (x3 + 1) (fun v5 => f_sc G (x3 + 2) (fun v6 => ((v6 = 0 → f_m σ2 x2 (fun ρ8 μ9 => W_X6_forbid G ρ8 d v5 0 μ9 (fun v7 μ10 => ((v1 = v7 → B_L_law_958 G (d + 1) x1 x2 x3 (mm_s ρ8 μ10) Q) ∧ (¬ v1 = v7 → Q 0 (mm_s ρ8 μ10)))))) ∧ (¬ v6 = 0 → f_m σ2 x2 (fun ρ12 μ13 => W_X6_forbid G ρ12 d v5 1 μ13 (fun v11 μ14 => ((v1 = v11 → B_L_law_958 G (d + 1) x1 x2 x3 (mm_s ρ12 μ14) Q) ∧ (¬ v1 = v11 → Q 0 (mm_s ρ12 μ14)))))))))))) : B_L_law_822 G (d + 1) x1 x2 x3 s0 s1 s2 σ Q := by
  unfold B_L_law_822
  refine fx_callV (Mc := m_X0_forbid) (as := [.int s1, .int s0]) (cs := [0]) (r := s2) (f_clsC inf_X0 q376 f_cls0) bm_X0_forbid q374 q375 (Nat.le_of_ble_eq_true rfl) dL_law_822 h (fun b h => mt_X0_forbid (fx_k2i h (fun v1 σ2 h => ?_) (fun q σ' h => h.elim)))
  refine am_aloadr_n (x := x2) dL_law_825 rfl rfl ?_
  refine am_aloadr_n (x := (some (am_sk G 24))) dL_law_826 rfl rfl ?_
  refine am_iload_n (x := x3) dL_law_827 rfl rfl ?_
  refine am_iconst (v := 1) dL_law_828 (by decide) ?_
  refine am_iadd dL_law_829 ?_
  refine fx_sc dL_law_830 h (fun v5 h => ?_)
  refine am_aloadr_n (x := (some (am_sk G 24))) dL_law_831 rfl rfl ?_
  refine am_iload_n (x := x3) dL_law_832 rfl rfl ?_
  refine am_iconst (v := 2) dL_law_833 (by decide) ?_
  refine am_iadd dL_law_834 ?_
  refine fx_sc dL_law_835 h (fun v6 h => ?_)
  refine am_if_eq (tgt := 843) dL_law_836 (by decide) (fun c => ?_) (fun c => ?_)
  · have h := h.1 c
    refine am_iconst (v := 0) dL_law_843 (by decide) ?_
    refine fx_callM (Mc := m_X6_forbid) (as := [.int v5, .int 0]) bm_X6_forbid q3050 q3051 q3052 (Nat.le_of_ble_eq_true rfl) dL_law_844 h (fun ρ8 μ9 h => mt_X6_forbid (mm_k2i h (fun v7 μ10 h => ?_)))
    refine am_icmp_eq (tgt := 958) dL_law_847 (by decide) (fun c => ?_) (fun c => ?_)
    · have h := h.1 c
      exact am_lss h rfl
    · have h := h.2 c
      refine am_iconst (v := 0) dL_law_850 (by decide) ?_
      exact am_zret rfl rfl dL_law_851 h
  · have h := h.2 c
    refine am_iconst (v := 1) dL_law_839 (by decide) ?_
    refine am_goto (tgt := 844) dL_law_840 (by decide) ?_
    refine fx_callM (Mc := m_X6_forbid) (as := [.int v5, .int 1]) bm_X6_forbid q3050 q3051 q3052 (Nat.le_of_ble_eq_true rfl) dL_law_844 h (fun ρ12 μ13 h => mt_X6_forbid (mm_k2i h (fun v11 μ14 h => ?_)))
    refine am_icmp_eq (tgt := 958) dL_law_847 (by decide) (fun c => ?_) (fun c => ?_)
    · have h := h.1 c
      exact am_lss h rfl
    · have h := h.2 c
      refine am_iconst (v := 0) dL_law_850 (by decide) ?_
      exact am_zret rfl rfl dL_law_851 h
theorem B_L_law_958_f {G : am_G} {d : Nat} {x1 : Option Nat} {x2 : Option Nat} {x3 : Int32} {σ : am_S} {Q : Int32 → am_S → Prop} (h : B_L_law_18 G (d + 1) x1 x2 (x3 + 6) σ Q) : B_L_law_958 G (d + 1) x1 x2 x3 σ Q := by
  unfold B_L_law_958
  refine am_iinc (x := x3) (v := (x3 + 6)) (L' := [(6, .int (x3 + 6)), (0, va_rf (some (am_sk G 24))), (2, va_rf x1), (4, va_rf x2)]) dL_law_958 rfl rfl (Nat.le_of_ble_eq_true rfl) rfl ?_
  refine am_goto (tgt := 18) dL_law_961 (by decide) ?_
  exact am_lss h rfl
