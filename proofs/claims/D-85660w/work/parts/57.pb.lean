set_option maxRecDepth 100000
/-! ===== the plain parser: statements and blocks; s: how many statements there were ===== -/
abbrev ps_B : Type := ps_R (Term × Nat)
/-- statements up to the brace -/
def ps_stmts (T : Nat → Int32) (st : Nat → ps_N → Nat → ps_B) : Nat → Nat → ps_N → Nat → ps_B
  | 0, p, N, _ => ps_f 0 p N
  | g + 1, p, N, s => if lxt T p = 325 then ps_ok (Term.thrown, s) (lxe T p) N
    else ps_b (st p N s) fun a p' N' => ps_b (ps_stmts T st g p' N' a.2) fun b p2 N2 => ps_ok (Term.add a.1 b.1, b.2) p2 N2
def ps_blk (T : Nat → Int32) (st : Nat → ps_N → Nat → ps_B) (p : Nat) (N : ps_N) (s : Nat) : ps_B := ps_b (ps_need T 123 p N) fun _ p' N' => ps_stmts T st 1001 p' N' s
/-- what is behind a semicolon -/
def ps_semi (T : Nat → Int32) (t : Term) (s p : Nat) (N : ps_N) : ps_B := ps_b (ps_need T 59 p N) fun _ p' N' => ps_ok (t, s) p' N'
/-- a statement, r more to be opened; own: of an act itself -/
def ps_stmt (T : Nat → Int32) : Nat → Bool → Nat → ps_N → Nat → ps_B
  | r, own, p, N, s =>
    if ¬ (lxt T p = 2 ∨ (106 ≤ lxt T p ∧ lxt T p ≤ 112)) then ps_f 1 (lxa T p) N
    else if lxt T p = 111 ∧ own = false then ps_f 2 (lxa T p) N
    else if s = 60 then ps_f 3 (lxa T p) N
    else if lxt T p = 112 then (match r with
      | 0 => ps_f 3 (lxa T p) N
      | r + 1 => ps_b (ps_exp T (ps_unit T r) (lxe T p) N) fun e p1 N1 => ps_b (ps_blk T (ps_stmt T r false) p1 N1 (s + 1)) fun y p2 N2 =>
        if lxt T p2 = 113 then ps_b (ps_blk T (ps_stmt T r false) (lxe T p2) N2 y.2) fun n p3 N3 => ps_ok (Term.sub e (Term.sub y.1 n.1), n.2) p3 N3
        else ps_ok (Term.sub e (Term.sub y.1 Term.thrown), y.2) p2 N2)
    else if lxt T p = 2 then ps_b (ps_name T p N) fun k p1 N1 => ps_b (ps_need T 61 p1 N1) fun _ p2 N2 => ps_b (ps_exp T (ps_unit T r) p2 N2) fun e p3 N3 => ps_semi T (Term.elem (Term.index k) e) (s + 1) p3 N3
    else if lxt T p = 106 then ps_b (ps_exp T (ps_unit T r) (lxe T p) N) fun e p1 N1 => ps_semi T (Term.length e) (s + 1) p1 N1
    else if lxt T p = 107 then ps_b (ps_exp T (ps_unit T r) (lxe T p) N) fun e p1 N1 => ps_semi T (Term.sum e) (s + 1) p1 N1
    else if lxt T p = 109 then ps_b (ps_name T (lxe T p) N) fun a p1 N1 => ps_semi T (Term.arg a) (s + 1) p1 N1
    else if lxt T p = 110 then ps_b (ps_name T (lxe T p) N) fun l p1 N1 => ps_b (ps_name T p1 N1) fun a p2 N2 => ps_semi T (Term.mul (Term.index l) (Term.index a)) (s + 1) p2 N2
    else if lxt T p = 108 then ps_semi T Term.null (s + 1) (lxe T p) N
    else ps_semi T Term.result (s + 1) (lxe T p) N
/-- the block whose first statement's node is x is the tree; all its nodes lie below m (a statement's inner blocks below its own node) -/
def isB (nd : Nat → Int32) (B lo : Nat) : Term → Nat → Int32 → Prop
  | .thrown, _, x => x = -1
  | .add (.elem (.index n) e) b, m, x => ∃ k, x = nI k ∧ lo ≤ k ∧ k < m ∧ nf nd B k 0 = 20 ∧ nf nd B k 1 = nI n ∧ n < 40 ∧ (∃ i, i < k ∧ nf nd B k 2 = nI i ∧ isE nd B lo e i) ∧ isB nd B lo b m (nf nd B k 4)
  | .add (.length e) b, m, x => ∃ k, x = nI k ∧ lo ≤ k ∧ k < m ∧ nf nd B k 0 = 21 ∧ (∃ i, i < k ∧ nf nd B k 1 = nI i ∧ isE nd B lo e i) ∧ isB nd B lo b m (nf nd B k 4)
  | .add (.sum e) b, m, x => ∃ k, x = nI k ∧ lo ≤ k ∧ k < m ∧ nf nd B k 0 = 22 ∧ (∃ i, i < k ∧ nf nd B k 1 = nI i ∧ isE nd B lo e i) ∧ isB nd B lo b m (nf nd B k 4)
  | .add .null b, m, x => ∃ k, x = nI k ∧ lo ≤ k ∧ k < m ∧ nf nd B k 0 = 23 ∧ isB nd B lo b m (nf nd B k 4)
  | .add (.arg a) b, m, x => ∃ k, x = nI k ∧ lo ≤ k ∧ k < m ∧ nf nd B k 0 = 24 ∧ nf nd B k 1 = nI a ∧ a < 40 ∧ isB nd B lo b m (nf nd B k 4)
  | .add (.mul (.index l) (.index a)) b, m, x => ∃ k, x = nI k ∧ lo ≤ k ∧ k < m ∧ nf nd B k 0 = 25 ∧ nf nd B k 1 = nI l ∧ l < 40 ∧ nf nd B k 2 = nI a ∧ a < 40 ∧ isB nd B lo b m (nf nd B k 4)
  | .add .result b, m, x => ∃ k, x = nI k ∧ lo ≤ k ∧ k < m ∧ nf nd B k 0 = 26 ∧ isB nd B lo b m (nf nd B k 4)
  | .add (.sub e (.sub y n)) b, m, x => ∃ k, x = nI k ∧ lo ≤ k ∧ k < m ∧ nf nd B k 0 = 27 ∧ (∃ i, i < k ∧ nf nd B k 1 = nI i ∧ isE nd B lo e i) ∧ isB nd B lo y k (nf nd B k 2) ∧ isB nd B lo n k (nf nd B k 3) ∧ isB nd B lo b m (nf nd B k 4)
  | _, _, _ => False
