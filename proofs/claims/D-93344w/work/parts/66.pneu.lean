/-! the text, as it is: tokens, words, conditions, rules -/
set_option maxRecDepth 100000
def isLb (b : Nat) : Bool := decide (97 ≤ b) && decide (b ≤ 122)
def isDb (b : Nat) : Bool := decide (48 ≤ b) && decide (b ≤ 57)
/-- where the next token begins, and where it ends -/
def tkA (n : Nat) (tp : Nat → Nat) (e : Nat) : Nat := nx (fun i => !(tp i == 32)) (n - e) e
def tkE (n : Nat) (tp : Nat → Nat) (a : Nat) : Nat := if a < n then (if isLb (tp a) = true then nx (fun i => !isLb (tp i)) (n - (a + 1)) (a + 1) else if isDb (tp a) = true then nx (fun i => !isDb (tp i)) (n - (a + 1)) (a + 1) else a + 1) else a
def tok (n : Nat) (tp : Nat → Nat) (e : Nat) : Nat × Nat := (tkA n tp e, tkE n tp (tkA n tp e))
theorem nx_bd {P : Nat → Bool} : ∀ k c, c ≤ nx P k c ∧ nx P k c ≤ c + k
  | 0, c => by unfold nx; omega
  | k + 1, c => by
    unfold nx
    split
    · omega
    · have := nx_bd (P := P) k (c + 1)
      omega
theorem tkA_bd {n e : Nat} (tp : Nat → Nat) (h : e ≤ n) : e ≤ tkA n tp e ∧ tkA n tp e ≤ n := by
  have := nx_bd (P := fun i => !(tp i == 32)) (n - e) e
  unfold tkA
  omega
theorem tkE_bd {n a : Nat} (tp : Nat → Nat) (h : a ≤ n) : a ≤ tkE n tp a ∧ tkE n tp a ≤ n ∧ (a < n → a < tkE n tp a) := by
  unfold tkE
  have h1 := nx_bd (P := fun i => !isLb (tp i)) (n - (a + 1)) (a + 1)
  have h2 := nx_bd (P := fun i => !isDb (tp i)) (n - (a + 1)) (a + 1)
  split
  · split
    · omega
    · split <;> omega
  · omega
theorem nx_run {P : Nat → Bool} : ∀ k c i, c ≤ i → i < nx P k c → P i = false
  | 0, c, i, h1, h2 => by unfold nx at h2; omega
  | k + 1, c, i, h1, h2 => by
    unfold nx at h2
    by_cases p : P c = true
    · rw [if_pos p] at h2
      omega
    · rw [if_neg p] at h2
      by_cases e : i = c
      · subst e
        simpa using p
      · exact nx_run k (c + 1) i (by omega) h2
/-- the words, by their places among the constants -/
def sW : List (List Nat) := [[112, 101, 114, 115, 111, 110], [109, 97, 105, 100], [109, 105, 115, 101, 114], [119, 105, 100, 111, 119], [112, 114, 105, 110, 99, 101], [98, 101, 97, 115, 116], [109, 111, 114, 101], [108, 101, 115, 115], [102, 114, 101, 101], [104, 97, 115], [110, 101, 101, 100], [99, 111, 105, 110, 115], [119, 104, 111, 108, 101], [110, 117, 109, 98, 101, 114], [105, 102], [110, 111, 116], [40], [41], [97, 110, 100], [111, 114], [59]]
def wrd (tp : Nat → Nat) (a e i : Nat) : Bool := decide (e - a = (sW.getD i []).length) && decide (∀ k, k < (sW.getD i []).length → tp (a + k) = (sW.getD i []).getD k 0)
/-- which of the m words from place b on stands here -/
def nmK (tp : Nat → Nat) (a e b : Nat) : Nat → Option Nat
  | 0 => none
  | k + 1 => if wrd tp a e (b + k) = true then some k else nmK tp a e b k
def fgv (tp : Nat → Nat) : Nat → Nat → Nat → Nat
  | 0, _, v => v
  | m + 1, k, v => fgv tp m (k + 1) (10 * v + (tp k - 48))
/-- a fault at a place, or what was read and the next token -/
abbrev PRs (α : Type) : Type := Nat ⊕ (α × Nat × Nat)
def pB {α β : Type} (o : Option (PRs α)) (k : α × Nat × Nat → Option (PRs β)) : Option (PRs β) := o.bind (Sum.elim (fun p => some (.inl p)) k)
section PN
variable (n : Nat) (tp : Nat → Nat)
def pF (a e : Nat) : PRs Nat := if 1 ≤ e - a ∧ e - a ≤ 4 ∧ isDb (tp a) = true then .inr (fgv tp (e - a) a 0, tok n tp e) else .inl a
/-- a value: its fact (or -1), its number, its code -/
def pV (a e : Nat) : PRs (Int32 × Int32 × Int32) := match nmK tp a e 9 5 with
  | some k => .inr ((nI k, 0, -1 - nI k), tok n tp e)
  | none => Sum.map id (fun r => ((-1, nI r.1, nI r.1), r.2)) (pF n tp a e)
/-- a condition: its law, its code but for a last 'not', whether that stands, how deep it is -/
abbrev CI : Type := ((Nat → Int32) → Bool) × List Int32 × Bool × Nat
def cdC (x : CI) : List Int32 := x.2.1 ++ (if x.2.2.1 = true then [-20] else [])
def vOf (v : Int32 × Int32 × Int32) (f : Nat → Int32) : Int32 := if v.1 < 0 then v.2.1 else f v.1.toNatClampNeg
def aski (v1 : Int32 × Int32 × Int32) (sg : Nat) (v2 : Int32 × Int32 × Int32) : CI := (fun f => if nI sg = 60 then decide (vOf v1 f < vOf v2 f) else if nI sg = 61 then decide (vOf v1 f = vOf v2 f) else decide (vOf v2 f < vOf v1 f), [v1.2.2, v2.2.2, if sg = 60 then -11 else if sg = 61 then -12 else -13], false, 1)
def isSg (a e : Nat) : Bool := decide (e - a = 1) && (tp a == 60 || tp a == 61 || tp a == 62)
/-- a comparison -/
def pQ (a e : Nat) : PRs CI := Sum.elim (fun p => .inl p) (fun r1 => if isSg tp r1.2.1 r1.2.2 = true then Sum.map id (fun r2 => (aski r1.1 (tp r1.2.1) r2.1, r2.2)) (pV n tp (tok n tp r1.2.2).1 (tok n tp r1.2.2).2) else .inl r1.2.1) (pV n tp a e)
/-- conditions, by fuel; 0 one, 1 and-rows, 2 their going on, 3 or-rows, 4 their going on -/
def pC : Nat → Nat → Nat → CI → Nat → Nat → Option (PRs CI)
  | 0, _, _, _, _, _ => none
  | f + 1, md, op, x, a, e =>
    if md = 0 then
      if wrd tp a e 15 = true then pB (pC f 0 op x (tok n tp e).1 (tok n tp e).2) (fun r => some (.inr ((fun h => !r.1.1 h, r.1.2.1, !r.1.2.2.1, r.1.2.2.2 + 1), r.2)))
      else if op < 3 ∧ wrd tp a e 16 = true then pB (pC f 3 (op + 1) x (tok n tp e).1 (tok n tp e).2) (fun r => if wrd tp r.2.1 r.2.2 17 = true then some (.inr ((r.1.1, cdC r.1, false, r.1.2.2.2), tok n tp r.2.2)) else some (.inl r.2.1))
      else some (pQ n tp a e)
    else if md = 1 then pB (pC f 0 op x a e) (fun r => pC f 2 op r.1 r.2.1 r.2.2)
    else if md = 2 then
      if wrd tp a e 18 = true then pB (pC f 0 op x (tok n tp e).1 (tok n tp e).2) (fun r => pC f 2 op (fun h => x.1 h && r.1.1 h, cdC x ++ cdC r.1 ++ [-21], false, max x.2.2.2 r.1.2.2.2 + 1) r.2.1 r.2.2)
      else some (.inr (x, a, e))
    else if md = 3 then pB (pC f 1 op x a e) (fun r => pC f 4 op r.1 r.2.1 r.2.2)
    else
      if wrd tp a e 19 = true then pB (pC f 1 op x (tok n tp e).1 (tok n tp e).2) (fun r => pC f 4 op (fun h => x.1 h || r.1.1 h, cdC x ++ cdC r.1 ++ [-22], false, max x.2.2.2 r.1.2.2.2 + 1) r.2.1 r.2.2)
      else some (.inr (x, a, e))
abbrev RI : Type := (Nat × Nat × Nat) × Option CI
def c0I : CI := (fun _ => true, [], false, 0)
/-- a rule's end: what it does, how much, ';' -/
def pE (kd : Nat) (x : Option CI) (a e : Nat) : PRs RI := match nmK tp a e 6 3 with
  | none => .inl a
  | some d => if d = 2 then (if wrd tp (tok n tp e).1 (tok n tp e).2 20 = true then .inr (((kd, d, 0), x), tok n tp (tok n tp e).2) else .inl (tok n tp e).1)
    else Sum.elim (fun p => .inl p) (fun r => if 99 < r.1 then .inl (tok n tp e).1 else if wrd tp r.2.1 r.2.2 20 = true then .inr (((kd, d, r.1), x), tok n tp r.2.2) else .inl r.2.1) (pF n tp (tok n tp e).1 (tok n tp e).2)
def pRu (f a e : Nat) : Option (PRs RI) := match nmK tp a e 0 6 with
  | none => some (.inl a)
  | some kd => if wrd tp (tok n tp e).1 (tok n tp e).2 14 = true then pB (pC n tp f 3 0 c0I (tok n tp (tok n tp e).2).1 (tok n tp (tok n tp e).2).2) (fun r => some (pE n tp kd (some r.1) r.2.1 r.2.2))
    else some (pE n tp kd none (tok n tp e).1 (tok n tp e).2)
/-- all rules; m: how many more rows may be looked at -/
def pRs (f : Nat) : Nat → List RI → Nat → Nat → Option (Nat ⊕ List RI)
  | 0, _, _, _ => none
  | m + 1, acc, a, e => if a < n then (if acc.length = 8 then some (.inl a) else (pRu n tp f a e).bind (Sum.elim (fun p => some (.inl p)) (fun r => pRs f m (acc ++ [r.1]) r.2.1 r.2.2))) else some (.inr acc)
end PN
/-- where it went to -/
def posR {α : Type} (r : PRs α) : Nat := Sum.elim id (fun r => r.2.1) r
theorem sW_b : ∀ i, i < 21 → (sW.getD i []).length = sLen.getD i 0 ∧ ∀ k, k < 6 → (sByt.getD i []).getD k 0 = nI ((sW.getD i []).getD k 0) ∧ (sW.getD i []).getD k 0 < 128 := by decide +kernel
