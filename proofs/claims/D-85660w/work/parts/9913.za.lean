set_option maxRecDepth 100000
def SPr (T : Nat → Int32) (r : Nat) (st : Nat → ps_N → Nat → ps_B) : Prop := ∀ (p : Nat) (N : ps_N) (s : Nat) (a : Term × Nat) (p' : Nat) (N' : ps_N), st p N s = ps_ok a p' N' → p ≤ 1000 → N.1 ≤ 40 → N'.1 ≤ 40 ∧ p < p' ∧ p' ≤ 1000 ∧ ∀ b, okB b r → okB (.add a.1 b) r
section
variable {T : Nat → Int32}
theorem SP_stmts (he : ∀ p, 1000 ≤ p → T p = -1) {r : Nat} {st : Nat → ps_N → Nat → ps_B} (hst : SPr T r st) : ∀ (g p : Nat) (N : ps_N) (s : Nat) (b : Term × Nat) (p' : Nat) (N' : ps_N), ps_stmts T st g p N s = ps_ok b p' N' → p ≤ 1000 → N.1 ≤ 40 → N'.1 ≤ 40 ∧ p < p' ∧ p' ≤ 1000 ∧ okB b.1 r
  | 0, p, N, s, b, p', N', h, hp, hN => by cases h
  | g + 1, p, N, s, b, p', N', h, hp, hN => by
    unfold ps_stmts at h
    by_cases h9 : lxt T p = 325
    · rw [if_pos h9] at h
      obtain ⟨e1, e2, e3⟩ := ps_ok_inj h
      subst e1; subst e2; subst e3
      have hs := lx_step he (p := p) (by rw [h9]; decide) hp
      exact ⟨hN, hs.1, hs.2, trivial⟩
    · rw [if_neg h9] at h
      obtain ⟨a, p1, N1, g1, g2⟩ := ps_b_ok h
      obtain ⟨c, p2, N2, g3, g4⟩ := ps_b_ok g2
      obtain ⟨k1, k2, k3, k4⟩ := hst _ _ _ _ _ _ g1 hp hN
      obtain ⟨l1, l2, l3, l4⟩ := SP_stmts he hst g _ _ _ _ _ _ g3 k3 k1
      obtain ⟨e1, e2, e3⟩ := ps_ok_inj g4
      subst e1; subst e2; subst e3
      exact ⟨l1, by omega, l3, k4 _ l4⟩
theorem SP_blk (he : ∀ p, 1000 ≤ p → T p = -1) {r : Nat} {st : Nat → ps_N → Nat → ps_B} (hst : SPr T r st) {p : Nat} {N : ps_N} {s : Nat} {b : Term × Nat} {p' : Nat} {N' : ps_N} (h : ps_blk T st p N s = ps_ok b p' N') (hp : p ≤ 1000) (hN : N.1 ≤ 40) : N'.1 ≤ 40 ∧ p < p' ∧ p' ≤ 1000 ∧ okB b.1 r := by
  unfold ps_blk at h
  obtain ⟨u, p1, N1, g1, g2⟩ := ps_b_ok h
  obtain ⟨e1, k2, k3⟩ := ps_need_lt he (by decide) g1 hp
  subst e1
  obtain ⟨l1, l2, l3, l4⟩ := SP_stmts he hst 1001 _ _ _ _ _ _ g2 k3 hN
  exact ⟨l1, by omega, l3, l4⟩
theorem SP_semi (he : ∀ p, 1000 ≤ p → T p = -1) {t : Term} {s p : Nat} {N : ps_N} {b : Term × Nat} {p' : Nat} {N' : ps_N} (h : ps_semi T t s p N = ps_ok b p' N') (hp : p ≤ 1000) : b = (t, s) ∧ N' = N ∧ p < p' ∧ p' ≤ 1000 := by
  unfold ps_semi at h
  obtain ⟨u, p1, N1, g1, g2⟩ := ps_b_ok h
  obtain ⟨e1, k2, k3⟩ := ps_need_lt he (by decide) g1 hp
  obtain ⟨f1, f2, f3⟩ := ps_ok_inj g2
  subst e1; subst f1; subst f2; subst f3
  exact ⟨rfl, rfl, k2, k3⟩
theorem SP_stmt (he : ∀ p, 1000 ≤ p → T p = -1) : ∀ (r : Nat), r ≤ 12 → ∀ own, SPr T r (ps_stmt T r own) := fun r => by
  -- all but 'if'
  have plain : ∀ (r : Nat), r ≤ 12 → ∀ (p : Nat) (N : ps_N) (s : Nat) (a : Term × Nat) (p' : Nat) (N' : ps_N), (lxt T p = 2 ∨ (106 ≤ lxt T p ∧ lxt T p ≤ 112)) → p ≤ 1000 → N.1 ≤ 40 → (if lxt T p = 2 then ps_b (ps_name T p N) fun k p1 N1 => ps_b (ps_need T 61 p1 N1) fun _ p2 N2 => ps_b (ps_exp T (ps_unit T r) p2 N2) fun e p3 N3 => ps_semi T (Term.elem (Term.index k) e) (s + 1) p3 N3
    else if lxt T p = 106 then ps_b (ps_exp T (ps_unit T r) (lxe T p) N) fun e p1 N1 => ps_semi T (Term.length e) (s + 1) p1 N1
    else if lxt T p = 107 then ps_b (ps_exp T (ps_unit T r) (lxe T p) N) fun e p1 N1 => ps_semi T (Term.sum e) (s + 1) p1 N1
    else if lxt T p = 109 then ps_b (ps_name T (lxe T p) N) fun a p1 N1 => ps_semi T (Term.arg a) (s + 1) p1 N1
    else if lxt T p = 110 then ps_b (ps_name T (lxe T p) N) fun l p1 N1 => ps_b (ps_name T p1 N1) fun a p2 N2 => ps_semi T (Term.mul (Term.index l) (Term.index a)) (s + 1) p2 N2
    else if lxt T p = 108 then ps_semi T Term.null (s + 1) (lxe T p) N
    else ps_semi T Term.result (s + 1) (lxe T p) N) = ps_ok a p' N' → N'.1 ≤ 40 ∧ p < p' ∧ p' ≤ 1000 ∧ ∀ b, okB b r → okB (.add a.1 b) r := fun r hr p N s a p' N' hok hp hN h => by
    have hne : ¬ lxt T p = 0 := fun e => by rw [e] at hok; exact absurd hok (by decide)
    have hs := lx_step he hne hp
    by_cases h2 : lxt T p = 2
    · rw [if_pos h2] at h
      obtain ⟨k, p1, N1, g1, g2⟩ := ps_b_ok h
      obtain ⟨u, p2, N2, g3, g4⟩ := ps_b_ok g2
      obtain ⟨e, p3, N3, g5, g6⟩ := ps_b_ok g4
      obtain ⟨k1, k2, k3, k4⟩ := ps_name_lt he g1 hp hN
      obtain ⟨l1, l2, l3⟩ := ps_need_lt he (by decide) g3 k4
      subst l1
      obtain ⟨m1, m2, m3, m4⟩ := ps_exp_hm he hr g5 l3 k2
      obtain ⟨n1, n2, n3, n4⟩ := SP_semi he g6 m4
      subst n1; subst n2
      exact ⟨m2, by omega, n4, fun b hb => ⟨m1, hb⟩⟩
    rw [if_neg h2] at h
    by_cases h3 : lxt T p = 106
    · rw [if_pos h3] at h
      obtain ⟨e, p3, N3, g5, g6⟩ := ps_b_ok h
      obtain ⟨m1, m2, m3, m4⟩ := ps_exp_hm he hr g5 hs.2 hN
      obtain ⟨n1, n2, n3, n4⟩ := SP_semi he g6 m4
      subst n1; subst n2
      exact ⟨m2, by omega, n4, fun b hb => ⟨m1, hb⟩⟩
    rw [if_neg h3] at h
    by_cases h4 : lxt T p = 107
    · rw [if_pos h4] at h
      obtain ⟨e, p3, N3, g5, g6⟩ := ps_b_ok h
      obtain ⟨m1, m2, m3, m4⟩ := ps_exp_hm he hr g5 hs.2 hN
      obtain ⟨n1, n2, n3, n4⟩ := SP_semi he g6 m4
      subst n1; subst n2
      exact ⟨m2, by omega, n4, fun b hb => ⟨m1, hb⟩⟩
    rw [if_neg h4] at h
    by_cases h5 : lxt T p = 109
    · rw [if_pos h5] at h
      obtain ⟨k, p1, N1, g1, g2⟩ := ps_b_ok h
      obtain ⟨k1, k2, k3, k4⟩ := ps_name_lt he g1 hs.2 hN
      obtain ⟨n1, n2, n3, n4⟩ := SP_semi he g2 k4
      subst n1; subst n2
      exact ⟨k2, by omega, n4, fun b hb => hb⟩
    rw [if_neg h5] at h
    by_cases h6 : lxt T p = 110
    · rw [if_pos h6] at h
      obtain ⟨k, p1, N1, g1, g2⟩ := ps_b_ok h
      obtain ⟨k', p2, N2, g3, g4⟩ := ps_b_ok g2
      obtain ⟨k1, k2, k3, k4⟩ := ps_name_lt he g1 hs.2 hN
      obtain ⟨l1, l2, l3, l4⟩ := ps_name_lt he g3 k4 k2
      obtain ⟨n1, n2, n3, n4⟩ := SP_semi he g4 l4
      subst n1; subst n2
      exact ⟨l2, by omega, n4, fun b hb => hb⟩
    rw [if_neg h6] at h
    by_cases h7 : lxt T p = 108
    · rw [if_pos h7] at h
      obtain ⟨n1, n2, n3, n4⟩ := SP_semi he h hs.2
      subst n1; subst n2
      exact ⟨hN, by omega, n4, fun b hb => hb⟩
    rw [if_neg h7] at h
    obtain ⟨n1, n2, n3, n4⟩ := SP_semi he h hs.2
    subst n1; subst n2
    exact ⟨hN, by omega, n4, fun b hb => hb⟩
  induction r with
  | zero =>
    intro hr own p N s a p' N' h hp hN
    unfold ps_stmt at h
    by_cases h1 : ¬ (lxt T p = 2 ∨ (106 ≤ lxt T p ∧ lxt T p ≤ 112))
    · rw [if_pos h1] at h; cases h
    rw [if_neg h1] at h
    by_cases h2 : lxt T p = 111 ∧ own = false
    · rw [if_pos h2] at h; cases h
    rw [if_neg h2] at h
    by_cases h3 : s = 60
    · rw [if_pos h3] at h; cases h
    rw [if_neg h3] at h
    by_cases h4 : lxt T p = 112
    · rw [if_pos h4] at h; cases h
    rw [if_neg h4] at h
    exact plain 0 hr p N s a p' N' (Classical.not_not.mp h1) hp hN h
  | succ r ih =>
    intro hr own p N s a p' N' h hp hN
    unfold ps_stmt at h
    by_cases h1 : ¬ (lxt T p = 2 ∨ (106 ≤ lxt T p ∧ lxt T p ≤ 112))
    · rw [if_pos h1] at h; cases h
    rw [if_neg h1] at h
    by_cases h2 : lxt T p = 111 ∧ own = false
    · rw [if_pos h2] at h; cases h
    rw [if_neg h2] at h
    by_cases h3 : s = 60
    · rw [if_pos h3] at h; cases h
    rw [if_neg h3] at h
    by_cases h4 : lxt T p = 112
    · rw [if_pos h4] at h
      have hs := lx_step he (p := p) (by rw [h4]; decide) hp
      obtain ⟨e, p1, N1, g1, g2⟩ := ps_b_ok h
      obtain ⟨y, p2, N2, g3, g4⟩ := ps_b_ok g2
      obtain ⟨m1, m2, m3, m4⟩ := ps_exp_hm he (by omega) g1 hs.2 hN
      obtain ⟨b1, b2, b3, b4⟩ := SP_blk he (ih (by omega) false) g3 m4 m2
      by_cases h5 : lxt T p2 = 113
      · rw [if_pos h5] at g4
        obtain ⟨z, p3, N3, g5, g6⟩ := ps_b_ok g4
        have hs2 := lx_step he (p := p2) (by rw [h5]; decide) b3
        obtain ⟨c1, c2, c3, c4⟩ := SP_blk he (ih (by omega) false) g5 hs2.2 b1
        obtain ⟨e1, e2, e3⟩ := ps_ok_inj g6
        subst e1; subst e2; subst e3
        exact ⟨c1, by omega, c3, fun b hb => ⟨m1, by omega, b4, c4, hb⟩⟩
      · rw [if_neg h5] at g4
        obtain ⟨e1, e2, e3⟩ := ps_ok_inj g4
        subst e1; subst e2; subst e3
        exact ⟨b1, by omega, b3, fun b hb => ⟨m1, by omega, b4, trivial, hb⟩⟩
    rw [if_neg h4] at h
    exact plain (r + 1) hr p N s a p' N' (Classical.not_not.mp h1) hp hN h
/-- what a member is: its name is one, its block is not deep -/
theorem ps_mem_is (he : ∀ p, 1000 ≤ p → T p = -1) {chk : Nat → Int32 → Option Int32} {p p' : Nat} {N N' : ps_N} {m : Mem} (h : ps_mem T chk p N = ps_ok m p' N') (hp : p ≤ 1000) (hN : N.1 ≤ 40) : (∃ n, n < 40 ∧ m.2.1 = nI n) ∧ m.1 < 3 ∧ okB m.2.2.2 12 ∧ N'.1 ≤ 40 ∧ p + 2 < p' ∧ p' ≤ 1000 := by
  unfold ps_mem at h
  by_cases h1 : ¬ (102 ≤ lxt T p ∧ lxt T p ≤ 105)
  · rw [if_pos h1] at h; cases h
  rw [if_neg h1] at h
  have h1' := Classical.not_not.mp h1
  have hs := lx_step he (p := p) (fun e => by rw [e] at h1'; exact absurd h1' (by decide)) hp
  obtain ⟨n, p1, N1, g1, g2⟩ := ps_b_ok h
  obtain ⟨k1, k2, k3, k4⟩ := ps_name_lt he g1 hs.2 hN
  cases hc : chk (msort (lxt T p)) (nI n) with
  | some kd => rw [hc] at g2; cases g2
  | none =>
    rw [hc] at g2
    have g3 : ps_mrest T (lxt T p) n p1 N1 = ps_ok m p' N' := g2
    have hms : msort (lxt T p) < 3 := by
      unfold msort
      by_cases h5 : lxt T p = 105
      · rw [if_pos h5]; decide
      · rw [if_neg h5]
        by_cases h4 : lxt T p = 104
        · rw [if_pos h4]; decide
        · rw [if_neg h4]; decide
    have key : (∃ n, n < 40 ∧ m.2.1 = nI n) ∧ m.1 < 3 := by
      obtain ⟨e1, e2⟩ := ps_mrest_ok g3
      exact ⟨⟨n, k1, e2⟩, by rw [e1]; exact hms⟩
    refine ⟨key.1, key.2, ?_⟩
    unfold ps_mrest at g3
    by_cases h5 : lxt T p = 105
    · rw [if_pos h5] at g3
      obtain ⟨b, p2, N2, g4, g5⟩ := ps_b_ok g3
      obtain ⟨b1, b2, b3, b4⟩ := SP_blk he (SP_stmt he 12 (Nat.le_refl _) true) g4 k4 k2
      obtain ⟨e1, e2, e3⟩ := ps_ok_inj g5
      subst e1; subst e2; subst e3
      exact ⟨b4, b1, by omega, b3⟩
    · rw [if_neg h5] at g3
      by_cases h6 : lxt T p = 103
      · rw [if_pos h6] at g3
        obtain ⟨b, p2, N2, g4, g5⟩ := ps_b_ok g3
        obtain ⟨l1, l2, l3⟩ := ps_need_lt he (by decide) g4 k4
        obtain ⟨e1, e2, e3⟩ := ps_ok_inj g5
        subst e1; subst e2; subst e3; subst l1
        exact ⟨trivial, k2, by omega, l3⟩
      · rw [if_neg h6] at g3
        obtain ⟨b, p2, N2, g4, g5⟩ := ps_b_ok g3
        obtain ⟨v, p3, N3, g6, g7⟩ := ps_b_ok g5
        obtain ⟨c, p4, N4, g8, g9⟩ := ps_b_ok g7
        obtain ⟨l1, l2, l3⟩ := ps_need_lt he (by decide) g4 k4
        subst l1
        have hn : N3 = N2 ∧ p2 < p3 ∧ p3 ≤ 1000 := by
          unfold ps_num at g6
          by_cases h7 : lxt T p2 = 245
          · rw [if_pos h7] at g6
            have hs2 := lx_step he (p := p2) (by rw [h7]; decide) l3
            by_cases h8 : lxt T (lxe T p2) = 3
            · rw [if_pos h8] at g6
              have hs3 := lx_step he (p := lxe T p2) (by rw [h8]; decide) hs2.2
              obtain ⟨e1, e2, e3⟩ := ps_ok_inj g6
              subst e2; subst e3
              exact ⟨rfl, by omega, hs3.2⟩
            · rw [if_neg h8] at g6; cases g6
          · rw [if_neg h7] at g6
            by_cases h8 : lxt T p2 = 3
            · rw [if_pos h8] at g6
              have hs3 := lx_step he (p := p2) (by rw [h8]; decide) l3
              obtain ⟨e1, e2, e3⟩ := ps_ok_inj g6
              subst e2; subst e3
              exact ⟨rfl, by omega, hs3.2⟩
            · rw [if_neg h8] at g6; cases g6
        obtain ⟨n1, n2, n3⟩ := hn
        subst n1
        obtain ⟨o1, o2, o3⟩ := ps_need_lt he (by decide) g8 n3
        obtain ⟨e1, e2, e3⟩ := ps_ok_inj g9
        subst e1; subst e2; subst e3; subst o1
        exact ⟨trivial, k2, by omega, o3⟩
/-- what is kept by new kinds and members holds of the kinds of a pond -/
theorem ps_pmems_inv (he : ∀ p, 1000 ≤ p → T p = -1) {I : List Kd → Prop} (hadd : ∀ (L : List Kd) (k : Nat) (kd : Kd) (m : Mem), I L → k + 1 = L.length → L[k]? = some kd → chkP L k m.1 m.2.1 = none → (∃ n, n < 40 ∧ m.2.1 = nI n) → m.1 < 3 → okB m.2.2.2 12 → I (addK L k m)) : ∀ (g : Nat) (L : List Kd) (k p : Nat) (N : ps_N) {L' : List Kd} {p' : Nat} {N' : ps_N}, k + 1 = L.length → ps_pmems T g L k p N = ps_ok L' p' N' → p ≤ 1000 → N.1 ≤ 40 → I L → I L' ∧ N'.1 ≤ 40 ∧ p' ≤ 1000
  | 0, L, k, p, N, L', p', N', hk, h, hp, hN, hI => by cases h
  | g + 1, L, k, p, N, L', p', N', hk, h, hp, hN, hI => by
    unfold ps_pmems at h
    by_cases h9 : lxt T p = 325
    · rw [if_pos h9] at h
      obtain ⟨e1, e2, e3⟩ := ps_ok_inj h
      subst e1; subst e2; subst e3
      exact ⟨hI, hN, (lx_step he (p := p) (by rw [h9]; decide) hp).2⟩
    · rw [if_neg h9] at h
      obtain ⟨m, p1, N1, h1, h2⟩ := ps_b_ok h
      obtain ⟨a1, a2, a3, a4, a5, a6⟩ := ps_mem_is he h1 hp hN
      exact ps_pmems_inv he hadd g (addK L k m) k p1 N1 (by rw [addK_len]; exact hk) h2 a6 a4 (hadd L k _ m hI hk (List.getElem?_eq_getElem (by omega)) (ps_mem_ok h1) a1 a2 a3)
theorem ps_pond_inv (he : ∀ p, 1000 ≤ p → T p = -1) {I : List Kd → Prop} (hadd : ∀ (L : List Kd) (k : Nat) (kd : Kd) (m : Mem), I L → k + 1 = L.length → L[k]? = some kd → chkP L k m.1 m.2.1 = none → (∃ n, n < 40 ∧ m.2.1 = nI n) → m.1 < 3 → okB m.2.2.2 12 → I (addK L k m)) (hnew : ∀ (L : List Kd) (n : Nat) (ab : Option Nat), I L → n < 40 → ixK L (nI n) = none → L.length < 12 → (∀ u, ab = some u → u < L.length) → I (L ++ [newK (nI n) ab])) : ∀ (g : Nat) (L : List Kd) (p : Nat) (N : ps_N) {L' : List Kd} {p' : Nat} {N' : ps_N}, L.length ≤ 12 → (∀ L, I L → L.length ≤ 12) → ps_pond T g L p N = ps_ok L' p' N' → p ≤ 1000 → N.1 ≤ 40 → I L → I L' ∧ N'.1 ≤ 40
  | 0, L, p, N, L', p', N', hL, hIL, h, hp, hN, hI => by cases h
  | g + 1, L, p, N, L', p', N', hL, hIL, h, hp, hN, hI => by
    unfold ps_pond at h
    obtain ⟨L1, p1, N1, h1, h2⟩ := ps_b_ok h
    have key : I L1 ∧ N1.1 ≤ 40 ∧ p1 ≤ 1000 := by
      unfold ps_kind at h1
      by_cases h9 : lxt T p = 100
      · rw [if_pos h9] at h1
        have hs := lx_step he (p := p) (by rw [h9]; decide) hp
        obtain ⟨n, p2, N2, g1, g2⟩ := ps_b_ok h1
        obtain ⟨k1, k2, k3, k4⟩ := ps_name_lt he g1 hs.2 hN
        by_cases h8 : (ixK L (nI n)).isSome = true
        · rw [if_pos h8] at g2; cases g2
        rw [if_neg h8] at g2
        by_cases h7 : L.length = 12
        · rw [if_pos h7] at g2; cases g2
        rw [if_neg h7] at g2
        have hix : ixK L (nI n) = none := by
          cases h6 : ixK L (nI n) with
          | none => rfl
          | some u => rw [h6] at h8; exact absurd rfl h8
        have hkr : ∀ (ab : Option Nat) (p3 : Nat) (N3 : ps_N), (∀ u, ab = some u → u < L.length) → p3 ≤ 1000 → N3.1 ≤ 40 → ps_krest T L n ab p3 N3 = ps_ok L1 p1 N1 → I L1 ∧ N1.1 ≤ 40 ∧ p1 ≤ 1000 := fun ab p3 N3 hab hp3 hN3 hk => by
          unfold ps_krest at hk
          obtain ⟨u, p4, N4, e1, e2⟩ := ps_b_ok hk
          obtain ⟨l1, l2, l3⟩ := ps_need_lt he (by decide) e1 hp3
          subst l1
          exact ps_pmems_inv he hadd 1001 _ _ p4 _ (by simp) e2 l3 hN3 (hnew L n ab hI k1 hix (by omega) hab)
        by_cases h6 : lxt T p2 = 101
        · rw [if_pos h6] at g2
          have hs2 := lx_step he (p := p2) (by rw [h6]; decide) k4
          obtain ⟨a, p3, N3, g3, g4⟩ := ps_b_ok g2
          obtain ⟨m1, m2, m3, m4⟩ := ps_name_lt he g3 hs2.2 k2
          cases hu : ixK L (nI a) with
          | none => rw [hu] at g4; cases g4
          | some u =>
            rw [hu] at g4
            exact hkr (some u) p3 N3 (fun u' hu' => by cases hu'; exact ixf_lt hu) m4 m2 g4
        · rw [if_neg h6] at g2
          exact hkr none p2 N2 (fun u hu => by cases hu) k4 k2 g2
      · rw [if_neg h9] at h1; cases h1
    by_cases h9 : lxt T p1 = 0
    · rw [if_pos h9] at h2
      obtain ⟨e1, e2, e3⟩ := ps_ok_inj h2
      subst e1; subst e2; subst e3
      exact ⟨key.1, key.2.1⟩
    · rw [if_neg h9] at h2
      exact ps_pond_inv he hadd hnew g L1 p1 N1 (hIL _ key.1) hIL h2 key.2.2 key.2.1 key.1
end
