set_option maxRecDepth 100000
/-! ===== the start: what the Statement gives, as the abstract machine wants it (printed by tools/mkst.py) ===== -/
section
variable {s : State} {args : Array Value}
theorem st_wK (hts : ∀ w ∈ lw_tbl, w.before args s = true) : am_wK s := ⟨fun w hw a => word_at (State.WarmedH.refl s) (lw_self w hw).2 (hts w (lw_all_tbl hw)), fun w hw ho => by
  have h1 := hts w hw
  cases w with
  | fieldLinkNest a b c d e f => exact va_any rfl h1
  | methodLinkNest a b c d => exact va_any rfl h1
  | declares x => exact va_any rfl h1
  | privateMethod x => exact va_any rfl h1
  | castable a b => exact va_any rfl h1
  | arrayOver ty =>
    cases ty with
    | object C => exact h1
    | array t => exact h1
    | _ => cases ho
  | _ => cases ho⟩
theorem st_oK (hts : ∀ w ∈ lw_tbl, w.before args s = true) : ∀ c : Nat, ∃ d : ClassId × (Nat → Nat), ∀ q : vw_C, am_cl[c]? = some q → u_Kn s q.1 q.2.1 q.2.2 d.1 d.2 := by
  intro c
  have ha : ∀ w ∈ lw_all, w.before args s = true := fun w h => hts w (lw_all_tbl h)
  match c with
  | 0 => obtain ⟨a, b, h⟩ := u_known ha in_X0 (ha _ q224); exact ⟨(a, b), fun q hq => by cases hq; exact h⟩
  | 1 => obtain ⟨a, b, h⟩ := u_known ha in_X1 (ha _ q299); exact ⟨(a, b), fun q hq => by cases hq; exact h⟩
  | 2 => obtain ⟨a, b, h⟩ := u_known ha in_X2 (ha _ q1085); exact ⟨(a, b), fun q hq => by cases hq; exact h⟩
  | 3 => obtain ⟨a, b, h⟩ := u_known ha in_X3 (ha _ q1153); exact ⟨(a, b), fun q hq => by cases hq; exact h⟩
  | 4 => obtain ⟨a, b, h⟩ := u_known ha in_X4 (ha _ q1174); exact ⟨(a, b), fun q hq => by cases hq; exact h⟩
  | 5 => obtain ⟨a, b, h⟩ := u_known ha in_X5 (ha _ q1205); exact ⟨(a, b), fun q hq => by cases hq; exact h⟩
  | 6 => obtain ⟨a, b, h⟩ := u_known ha in_X6 (ha _ q2313); exact ⟨(a, b), fun q hq => by cases hq; exact h⟩
  | 7 => obtain ⟨a, b, h⟩ := u_known ha in_X7 (ha _ q515); exact ⟨(a, b), fun q hq => by cases hq; exact h⟩
  | 8 => obtain ⟨a, b, h⟩ := u_known ha in_X8 (ha _ q551); exact ⟨(a, b), fun q hq => by cases hq; exact h⟩
  | 9 => obtain ⟨a, b, h⟩ := u_known ha in_X9 (ha _ q1757); exact ⟨(a, b), fun q hq => by cases hq; exact h⟩
  | 10 => obtain ⟨a, b, h⟩ := u_known ha in_X10 (ha _ q1763); exact ⟨(a, b), fun q hq => by cases hq; exact h⟩
  | 11 => obtain ⟨a, b, h⟩ := u_known ha in_X12 (ha _ q1804); exact ⟨(a, b), fun q hq => by cases hq; exact h⟩
  | 12 => obtain ⟨a, b, h⟩ := u_known ha in_X14 (ha _ q1822); exact ⟨(a, b), fun q hq => by cases hq; exact h⟩
  | 13 => obtain ⟨a, b, h⟩ := u_known ha in_X15 (ha _ q1841); exact ⟨(a, b), fun q hq => by cases hq; exact h⟩
  | 14 => obtain ⟨a, b, h⟩ := u_known ha in_X16 (ha _ q1857); exact ⟨(a, b), fun q hq => by cases hq; exact h⟩
  | 15 => obtain ⟨a, b, h⟩ := u_known ha in_X17 (ha _ q1872); exact ⟨(a, b), fun q hq => by cases hq; exact h⟩
  | 16 => obtain ⟨a, b, h⟩ := u_known ha in_X18 (ha _ q464); exact ⟨(a, b), fun q hq => by cases hq; exact h⟩
  | 17 => obtain ⟨a, b, h⟩ := u_known ha in_X19 (ha _ q1954); exact ⟨(a, b), fun q hq => by cases hq; exact h⟩
  | 18 => obtain ⟨a, b, h⟩ := u_known ha in_X20 (ha _ q1971); exact ⟨(a, b), fun q hq => by cases hq; exact h⟩
  | 19 => obtain ⟨a, b, h⟩ := u_known ha in_X21 (ha _ q1988); exact ⟨(a, b), fun q hq => by cases hq; exact h⟩
  | 20 => obtain ⟨a, b, h⟩ := u_known ha in_X22 (ha _ q2005); exact ⟨(a, b), fun q hq => by cases hq; exact h⟩
  | 21 => obtain ⟨a, b, h⟩ := u_known ha in_X23 (ha _ q254); exact ⟨(a, b), fun q hq => by cases hq; exact h⟩
  | 22 => obtain ⟨a, b, h⟩ := u_known ha in_X24 (ha _ q882); exact ⟨(a, b), fun q hq => by cases hq; exact h⟩
  | 23 => obtain ⟨a, b, h⟩ := u_known ha in_X25 (ha _ q998); exact ⟨(a, b), fun q hq => by cases hq; exact h⟩
  | 24 => obtain ⟨a, b, h⟩ := u_known ha in_X26 (ha _ q2063); exact ⟨(a, b), fun q hq => by cases hq; exact h⟩
  | 25 => obtain ⟨a, b, h⟩ := u_known ha in_X28 (ha _ q2077); exact ⟨(a, b), fun q hq => by cases hq; exact h⟩
  | 26 => obtain ⟨a, b, h⟩ := u_known ha in_X29 (ha _ q814); exact ⟨(a, b), fun q hq => by cases hq; exact h⟩
  | 27 => obtain ⟨a, b, h⟩ := u_known ha in_X30 (ha _ q2138); exact ⟨(a, b), fun q hq => by cases hq; exact h⟩
  | 28 => obtain ⟨a, b, h⟩ := u_known ha in_X31 (ha _ q2170); exact ⟨(a, b), fun q hq => by cases hq; exact h⟩
  | 29 => obtain ⟨a, b, h⟩ := u_known ha in_X32 (ha _ q2182); exact ⟨(a, b), fun q hq => by cases hq; exact h⟩
  | 30 => obtain ⟨a, b, h⟩ := u_known ha in_X33 (ha _ q2197); exact ⟨(a, b), fun q hq => by cases hq; exact h⟩
  | 31 => obtain ⟨a, b, h⟩ := u_known ha in_X34 (ha _ q2242); exact ⟨(a, b), fun q hq => by cases hq; exact h⟩
  | 32 => obtain ⟨a, b, h⟩ := u_known ha in_X35 (ha _ q297); exact ⟨(a, b), fun q hq => by cases hq; exact h⟩
  | 33 => obtain ⟨a, b, h⟩ := u_known ha in_J14 (ha _ q521); exact ⟨(a, b), fun q hq => by cases hq; exact h⟩
  | 34 => obtain ⟨a, b, h⟩ := u_known ha in_J3 (ha _ q1413); exact ⟨(a, b), fun q hq => by cases hq; exact h⟩
  | 35 => obtain ⟨a, b, h⟩ := u_known ha in_J4 (ha _ q1531); exact ⟨(a, b), fun q hq => by cases hq; exact h⟩
  | c + 36 => exact ⟨(0, fun _ => 0), fun q hq => by cases hq⟩
theorem st_prim {ty : FieldType} (h : (Cond.arrayClass ty).before args s = true) (hn : ∀ C, ty ≠ .object C) : ∃ cA : ClassId, ArrOfT s cA ty ∧ va_RA s cA ty := by
  obtain ⟨c, k, comp, h1, h2, h3⟩ := Cond.arrayClass_spec h
  refine ⟨c, fun N z => ⟨(fun k h => by cases h), k, h2, comp, h3⟩, ?_⟩
  cases ty with
  | object C => exact absurd rfl (hn C)
  | _ => exact h1
theorem st_obj {C : String} (h : (Cond.arrayOver (.object C)).before args s = true) : ∃ cA : ClassId, ArrOfT s cA (.object C) ∧ va_RA s cA (.object C) := by
  obtain ⟨comp, c, k, h1, -, h3, h4, h5⟩ := Cond.arrayOver_spec h
  exact ⟨c, fun N z => ⟨(fun k h => by cases h), k, h3, comp, h4⟩, k, comp, h3, h4, h1, h5⟩
theorem st_arr {ty : FieldType} (h : (Cond.arrayOver (.array ty)).before args s = true) : ∃ cA : ClassId, ArrOfT s cA (.array ty) ∧ va_RA s cA (.array ty) := by
  obtain ⟨comp, c, k, h1, -, h3, h4, h5⟩ := am_AO1 h
  exact ⟨c, fun N z => ⟨(fun k h => by cases h), k, h3, comp, h4⟩, h5⟩
theorem st_aK (hts : ∀ w ∈ lw_tbl, w.before args s = true) : ∀ k : Nat, ∃ cA : ClassId, ∀ ty : FieldType, am_tyl[k]? = some ty → ArrOfT s cA ty ∧ va_RA s cA ty := by
  intro k
  have ha : ∀ w ∈ lw_all, w.before args s = true := fun w h => hts w (lw_all_tbl h)
  match k with
  | 0 => obtain ⟨a, h⟩ := st_prim (ha _ q281) (fun C h => by cases h); exact ⟨a, fun ty h9 => by cases h9; exact h⟩
  | 1 => obtain ⟨a, h⟩ := st_prim (ha _ q1151) (fun C h => by cases h); exact ⟨a, fun ty h9 => by cases h9; exact h⟩
  | 2 => obtain ⟨a, h⟩ := st_prim (ha _ q1909) (fun C h => by cases h); exact ⟨a, fun ty h9 => by cases h9; exact h⟩
  | 3 => obtain ⟨a, h⟩ := st_prim (ha _ q282) (fun C h => by cases h); exact ⟨a, fun ty h9 => by cases h9; exact h⟩
  | 4 => obtain ⟨a, h⟩ := st_prim (ha _ q2605) (fun C h => by cases h); exact ⟨a, fun ty h9 => by cases h9; exact h⟩
  | 5 => obtain ⟨a, h⟩ := st_obj (hts _ q1059); exact ⟨a, fun ty h9 => by cases h9; exact h⟩
  | 6 => obtain ⟨a, h⟩ := st_obj (hts _ q1891); exact ⟨a, fun ty h9 => by cases h9; exact h⟩
  | 7 => obtain ⟨a, h⟩ := st_obj (hts _ q1769); exact ⟨a, fun ty h9 => by cases h9; exact h⟩
  | 8 => obtain ⟨a, h⟩ := st_obj (hts _ q881); exact ⟨a, fun ty h9 => by cases h9; exact h⟩
  | 9 => obtain ⟨a, h⟩ := st_obj (hts _ q862); exact ⟨a, fun ty h9 => by cases h9; exact h⟩
  | 10 => obtain ⟨a, h⟩ := st_obj (hts _ q560); exact ⟨a, fun ty h9 => by cases h9; exact h⟩
  | 11 => obtain ⟨a, h⟩ := st_obj (hts _ q277); exact ⟨a, fun ty h9 => by cases h9; exact h⟩
  | 12 => obtain ⟨a, h⟩ := st_obj (hts _ q1083); exact ⟨a, fun ty h9 => by cases h9; exact h⟩
  | 13 => obtain ⟨a, h⟩ := st_obj (hts _ q1084); exact ⟨a, fun ty h9 => by cases h9; exact h⟩
  | 14 => obtain ⟨a, h⟩ := st_obj (hts _ q1229); exact ⟨a, fun ty h9 => by cases h9; exact h⟩
  | 15 => obtain ⟨a, h⟩ := st_obj (hts _ q1235); exact ⟨a, fun ty h9 => by cases h9; exact h⟩
  | 16 => obtain ⟨a, h⟩ := st_obj (hts _ q701); exact ⟨a, fun ty h9 => by cases h9; exact h⟩
  | 17 => obtain ⟨a, h⟩ := st_arr (hts _ q1231); exact ⟨a, fun ty h9 => by cases h9; exact h⟩
  | 18 => obtain ⟨a, h⟩ := st_arr (hts _ q1233); exact ⟨a, fun ty h9 => by cases h9; exact h⟩
  | k + 19 => exact ⟨0, fun ty h9 => by cases h9⟩
def st_rep : List (String × Nat) := [("PondHouse$Reader", 93), ("PondHouse", 494), ("PondHouse", 495), ("PondHouse", 497), ("PondHouse", 498), ("PondHouse", 500), ("PondHouse", 502), ("PondHouse", 504), ("PondHouse", 506), ("PondHouse", 508), ("PondHouse", 509), ("PondHouse", 511), ("PondHouse", 513), ("PondHouse", 515), ("PondHouse", 517), ("PondHouse", 519), ("PondHouse", 521), ("PondHouse", 523), ("PondHouse", 524), ("PondHouse", 526), ("PondHouse", 528), ("PondHouse", 530), ("PondHouse", 532)]
def st_tm (i : Nat) : Term := Term.string (st_rep.getD i ("", 0)).1 (st_rep.getD i ("", 0)).2
def st_all : List (String × Nat × String × Nat) := [("PondHouse$Reader", 93, "{}();=+-*/<.", 0), ("PondHouse", 494, "kind", 1), ("PondHouse$Reader", 299, "kind", 1), ("PondHouse", 495, "under", 2), ("PondHouse$Reader", 324, "under", 2), ("PondHouse", 497, "field", 3), ("PondHouse$Reader", 257, "field", 3), ("PondHouse", 498, "link", 4), ("PondHouse$Reader", 259, "link", 4), ("PondHouse", 500, "static", 5), ("PondHouse$Reader", 261, "static", 5), ("PondHouse", 502, "act", 6), ("PondHouse$Reader", 263, "act", 6), ("PondHouse", 504, "give", 7), ("PondHouse$Reader", 195, "give", 7), ("PondHouse", 506, "fail", 8), ("PondHouse$Reader", 197, "fail", 8), ("PondHouse", 508, "above", 9), ("PondHouse$Reader", 199, "above", 9), ("PondHouse", 509, "do", 10), ("PondHouse$Reader", 201, "do", 10), ("PondHouse", 511, "send", 11), ("PondHouse$Reader", 203, "send", 11), ("PondHouse", 513, "rest", 12), ("PondHouse$Reader", 205, "rest", 12), ("PondHouse", 515, "if", 13), ("PondHouse$Reader", 207, "if", 13), ("PondHouse", 517, "else", 14), ("PondHouse$Reader", 252, "else", 14), ("PondHouse", 519, "v", 15), ("PondHouse$Reader", 159, "v", 15), ("PondHouse", 521, "last", 16), ("PondHouse$Reader", 169, "last", 16), ("PondHouse", 523, "change", 17), ("PondHouse$Reader", 332, "change", 17), ("PondHouse", 524, "drop", 18), ("PondHouse$Reader", 336, "drop", 18), ("PondHouse", 526, "move", 19), ("PondHouse$Reader", 338, "move", 19), ("PondHouse", 528, "rename", 20), ("PondHouse$Reader", 373, "rename", 20), ("PondHouse", 530, "carry", 21), ("PondHouse$Reader", 375, "carry", 21), ("PondHouse", 532, "check", 22), ("PondHouse$Reader", 340, "check", 22)]
theorem st_allin : ∀ w ∈ lw_tbl, (match w with
  | .stringRef own k tx => st_all.any fun q => q.1 == own && q.2.1 == k && q.2.2.1 == tx
  | _ => true) = true := by
  intro w hw
  have h : lw_tbl.all (fun w => match w with
    | .stringRef own k tx => st_all.any fun q => q.1 == own && q.2.1 == k && q.2.2.1 == tx
    | _ => true) = true := by decide +kernel
  exact List.all_eq_true.mp h w hw
theorem st_str (hgv : (Jvm.Cond.and given_1 narrow_1).before args s = true) {A : Nat → Prop} (hA : ∀ a : Nat, a < s.heap.size → ¬ A a) : ∀ i : Nat, ∃ q : Nat × Nat, i < 23 → (st_tm i).eval args s none [] s = some (.ref q.1) ∧ va_O "java/lang/String" q.1 A s s.heap ∧ va_OF "java/lang/String" "coder" "B" (.int 0) q.1 A s s.heap ∧ va_OF "java/lang/String" "value" "[B" (.ref q.2) q.1 A s s.heap ∧ va_T .byte q.2 ((am_txs.getD i "").length) (fun j => .int (am_byte i j)) A s s.heap := by
  have hs := flat_of_before _ hgv
  have hex : ∀ i : Nat, i < 23 → (Cond.exactly (st_tm i) "java/lang/String").before args s = true := fun i hi => hs _ ((by decide +kernel : ∀ i : Nat, i < 23 → Cond.exactly (st_tm i) "java/lang/String" ∈ flatC (Jvm.Cond.and given_1 narrow_1)) i hi)
  have hco : ∀ i : Nat, i < 23 → (Cond.eq (.field (st_tm i) "java/lang/String" "coder" "B") (.int 0)).before args s = true := fun i hi => hs _ ((by decide +kernel : ∀ i : Nat, i < 23 → Cond.eq (.field (st_tm i) "java/lang/String" "coder" "B") (.int 0) ∈ flatC (Jvm.Cond.and given_1 narrow_1)) i hi)
  have har : ∀ i : Nat, i < 23 → (Cond.arrayOf (.field (st_tm i) "java/lang/String" "value" "[B") .byte).before args s = true := fun i hi => hs _ ((by decide +kernel : ∀ i : Nat, i < 23 → Cond.arrayOf (.field (st_tm i) "java/lang/String" "value" "[B") .byte ∈ flatC (Jvm.Cond.and given_1 narrow_1)) i hi)
  have hle : ∀ i : Nat, i < 23 → (Cond.eq (.length (.field (st_tm i) "java/lang/String" "value" "[B")) (.int (Int32.ofNat ((am_txs.getD i "").length)))).before args s = true := fun i hi => hs _ ((by decide +kernel : ∀ i : Nat, i < 23 → Cond.eq (.length (.field (st_tm i) "java/lang/String" "value" "[B")) (.int (Int32.ofNat ((am_txs.getD i "").length))) ∈ flatC (Jvm.Cond.and given_1 narrow_1)) i hi)
  have hel : ∀ i : Nat, i < 23 → ∀ j : Nat, j < (am_txs.getD i "").length → (Cond.eq (.elem (.field (st_tm i) "java/lang/String" "value" "[B") (.int (Int32.ofNat j))) (.int (am_byte i j))).before args s = true := fun i hi j hj => hs _ ((by decide +kernel : ∀ i : Nat, i < 23 → ∀ j : Nat, j < (am_txs.getD i "").length → Cond.eq (.elem (.field (st_tm i) "java/lang/String" "value" "[B") (.int (Int32.ofNat j))) (.int (am_byte i j)) ∈ flatC (Jvm.Cond.and given_1 narrow_1)) i hi j hj)
  have hln : ∀ i : Nat, i < 23 → (am_txs.getD i "").length < 2 ^ 31 := by decide +kernel
  intro i
  by_cases hi : i < 23
  · obtain ⟨a, c, cA, kA, q1, q2, q3, q4, q5, q6, -⟩ := Cond.exactly_spec (args := args) (first := s) (o := none) (s := s) (idx := []) (t := st_tm i) (cls := "java/lang/String") (hex i hi)
    obtain ⟨t, ht, hT⟩ := va_Tof (f := fun j => .int (am_byte i j)) (A := A) (hln i hi) (har i hi) (va_eqt (hle i hi)) (fun j hj => va_eqt (hel i hi j hj)) hA
    exact ⟨(a, t), fun _ => ⟨q1, ⟨cA, q3, q5, by rw [q6]; exact q2, hA a (Array.getElem?_eq_some_iff.mp q3).1⟩, vk_OFof q1 (va_eqt (hco i hi)) hA, vk_OFof q1 ht hA, hT⟩⟩
  · exact ⟨(0, 0), fun h => absurd h hi⟩
end
