/-! rows of changes: what the searches find -/
set_option maxRecDepth 100000
def aOK (T : Tn) (ab : Nat) : Prop := ab < T 0 ∨ ab = 6
theorem aOK.le {T : Tn} {ab : Nat} (h : aOK T ab) (w : WF T) : ab ≤ 6 := by
  have := w.n
  rcases h with h | h <;> omega
/-- all but ab have what they need -/
def dn (T : Tn) (ab : Nat) : Bool := decide (∀ p, p < T 0 → p = ab ∨ isW T p = true)
theorem bt_ab (ab i : Nat) : (if ab < 6 then 2 ^ ab else 0).testBit i = (decide (ab < 6) && decide (ab = i)) := by
  split
  · next h =>
    rw [Nat.testBit_two_pow]
    simp [h]
  · next h => simp [h]
theorem dn_k {T : Tn} {ab : Nat} (h : aOK T ab) (w : WF T) : (wS T 6 (T 0) ||| (if ab < 6 then 2 ^ ab else 0) = 2 ^ T 0 - 1) ↔ dn T ab = true := by
  have hn := w.n
  unfold dn
  rw [decide_eq_true_iff]
  constructor
  · intro e p hp
    have t := congrArg (fun m => Nat.testBit m p) e
    simp only [Nat.testBit_or, wS_bit, Nat.testBit_two_pow_sub_one, bt_ab] at t
    by_cases q : p = ab
    · exact Or.inl q
    · right
      have q' : ¬ ab = p := fun z => q z.symm
      simpa [hp, q', show p ≠ 6 by omega] using t
  · intro f
    apply Nat.eq_of_testBit_eq
    intro i
    rw [Nat.testBit_or, wS_bit, Nat.testBit_two_pow_sub_one, bt_ab]
    by_cases hi : i < T 0
    · rcases f i hi with e | e
      · subst e
        simp [hi, show i < 6 by omega]
      · simp [hi, e, show i ≠ 6 by omega]
    · have e : ¬ (ab < 6 ∧ ab = i) := by
        rcases h with h | h <;> omega
      by_cases e1 : ab < 6
      · have e2 : ¬ ab = i := fun z => e ⟨e1, z⟩
        simp [hi, e2]
      · simp [hi, e1]
theorem dn_t {T : Tn} {ab : Nat} (h : aOK T ab) (w : WF T) : (wS T ab (T 0) = clr (2 ^ T 0 - 1) ab) ↔ dn T ab = true := by
  have hn := w.n
  have cb : ∀ i, (clr (2 ^ T 0 - 1) ab).testBit i = (decide (i < T 0) && decide (i ≠ ab)) := by
    intro i
    unfold clr
    split
    · next q =>
      rw [Nat.testBit_and, Nat.testBit_two_pow_sub_one]
      by_cases hi : i < T 0
      · rw [clr_b ab q i (by omega)]
      · simp [hi]
    · next q =>
      rw [Nat.testBit_two_pow_sub_one]
      by_cases hi : i < T 0
      · simp [hi, show i ≠ ab by omega]
      · simp [hi]
  unfold dn
  rw [decide_eq_true_iff]
  constructor
  · intro e p hp
    have t := congrArg (fun m => Nat.testBit m p) e
    simp only [wS_bit, cb] at t
    by_cases q : p = ab
    · exact Or.inl q
    · right
      simpa [hp, q] using t
  · intro f
    apply Nat.eq_of_testBit_eq
    intro i
    rw [wS_bit, cb]
    by_cases hi : i < T 0
    · rcases f i hi with e | e
      · simp [e]
      · simp [e]
    · simp [hi]
/-- what a search has found: how many rows, the most that were whole, the first of the shortest rows, the first of the cheapest -/
abbrev Acc : Type := Nat × Nat × Option (List Nat) × Option (Nat × List Nat)
def mSh (o : Option (List Nat)) (r : List Nat) : Option (List Nat) := match o with
  | none => some r
  | some q => if r.length < q.length then some r else some q
def mCh (o : Option (Nat × List Nat)) (k : Nat) (r : List Nat) : Option (Nat × List Nat) := match o with
  | none => some (k, r)
  | some q => if k < q.1 then some (k, r) else some q
def dA (a : Acc) (r : List Nat) (k : Nat) : Acc := (a.1 + 1, a.2.1, mSh a.2.2.1 r, mCh a.2.2.2 k r)
def mA (a : Acc) (m : Nat) : Acc := (a.1, if a.2.1 < m then m else a.2.1, a.2.2)
def foC {S : Type} (P : Nat → Bool) (f : Nat → S → S) : Nat → Nat → S → S
  | 0, _, s => s
  | k + 1, c, s => if P c then foC P f k (c + 1) (f c s) else foC P f k (c + 1) s
theorem foC_fo {S R : Type} (P : Nat → Bool) (f : Nat → S → S) : ∀ k c s, fo (R := R) P (fun c s => .inl (f c s)) k c s = .inl (foC P f k c s)
  | 0, _, _ => rfl
  | k + 1, c, s => by
    rw [fo_s]
    unfold foC
    split
    · exact foC_fo P f k (c + 1) (f c s)
    · exact foC_fo P f k (c + 1) s
def goA (L : RLt) (ab : Nat) : Nat → Tn → List Nat → Nat → Acc → Acc
  | 0, T, pre, k, a => if dn T ab then dA (mA a (pop (wS T ab (T 0)))) pre k else mA a (pop (wS T ab (T 0)))
  | d + 1, T, pre, k, a => if dn T ab then dA (mA a (pop (wS T ab (T 0)))) pre k else foC (okC L T ab) (fun c a => goA L ab d (doT L T ab c) (pre ++ [c]) (k + cst L T ab c) a) 60 0 (mA a (pop (wS T ab (T 0))))
/-- the first row of so many -/
def foF {R : Type} (P : Nat → Bool) (f : Nat → Option R) : Nat → Nat → Option R
  | 0, _ => none
  | k + 1, c => if P c then (match f c with | some r => some r | none => foF P f k (c + 1)) else foF P f k (c + 1)
def dI (L : RLt) (ab : Nat) : Nat → Tn → Option (List Nat)
  | 0, T => if dn T ab then some [] else none
  | d + 1, T => if dn T ab then none else foF (okC L T ab) (fun c => (dI L ab d (doT L T ab c)).map (c :: ·)) 60 0
/-! all rows, one behind the other -/
def ctn {α : Type} (P : Nat → Bool) (F : Nat → List α) : Nat → Nat → List α
  | 0, _ => []
  | k + 1, c => if P c then F c ++ ctn P F k (c + 1) else ctn P F k (c + 1)
def rws (L : RLt) (ab : Nat) : Nat → Tn → List (List Nat)
  | 0, T => if dn T ab then [[]] else []
  | d + 1, T => if dn T ab then [[]] else ctn (okC L T ab) (fun c => (rws L ab d (doT L T ab c)).map (c :: ·)) 60 0
theorem rws_len {L : RLt} {ab : Nat} : ∀ d T r, r ∈ rws L ab d T → r.length ≤ d
  | 0, T, r, h => by
    unfold rws at h
    split at h
    · simp at h
      simp [h]
    · simp at h
  | d + 1, T, r, h => by
    unfold rws at h
    split at h
    · simp at h
      simp [h]
    · have key : ∀ k c, r ∈ ctn (okC L T ab) (fun c => (rws L ab d (doT L T ab c)).map (c :: ·)) k c → r.length ≤ d + 1 := by
        intro k
        induction k with
        | zero => intro c h; simp [ctn] at h
        | succ k ih =>
          intro c h
          unfold ctn at h
          split at h
          · rcases List.mem_append.mp h with h | h
            · obtain ⟨x, h1, h2⟩ := List.mem_map.mp h
              have := rws_len d _ x h1
              rw [← h2]
              simp
              exact this
            · exact ih (c + 1) h
          · exact ih (c + 1) h
      exact key 60 0 h
/-- of the accumulated: rows and shortest -/
theorem goA_rws {L : RLt} {ab : Nat} : ∀ d T pre k (a : Acc), (goA L ab d T pre k a).1 = a.1 + (rws L ab d T).length ∧ (goA L ab d T pre k a).2.2.1 = (rws L ab d T).foldl (fun o r => mSh o (pre ++ r)) a.2.2.1
  | 0, T, pre, k, a => by
    unfold goA rws
    split
    · simp [dA, mA]
    · simp [mA]
  | d + 1, T, pre, k, a => by
    unfold goA rws
    split
    · simp [dA, mA]
    · have key : ∀ j c (b : Acc), (foC (okC L T ab) (fun c a => goA L ab d (doT L T ab c) (pre ++ [c]) (k + cst L T ab c) a) j c b).1 = b.1 + (ctn (okC L T ab) (fun c => (rws L ab d (doT L T ab c)).map (c :: ·)) j c).length ∧ (foC (okC L T ab) (fun c a => goA L ab d (doT L T ab c) (pre ++ [c]) (k + cst L T ab c) a) j c b).2.2.1 = (ctn (okC L T ab) (fun c => (rws L ab d (doT L T ab c)).map (c :: ·)) j c).foldl (fun o r => mSh o (pre ++ r)) b.2.2.1 := by
        intro j
        induction j with
        | zero => intro c b; exact ⟨rfl, rfl⟩
        | succ j ih =>
          intro c b
          unfold foC ctn
          split
          · have h1 := goA_rws (L := L) (ab := ab) d (doT L T ab c) (pre ++ [c]) (k + cst L T ab c) b
            have h2 := ih (c + 1) (goA L ab d (doT L T ab c) (pre ++ [c]) (k + cst L T ab c) b)
            constructor
            · rw [h2.1, h1.1, List.length_append, List.length_map]
              omega
            · rw [h2.2, h1.2, List.foldl_append, List.foldl_map]
              simp
          · exact ih (c + 1) b
      have := key 60 0 (mA a (pop (wS T ab (T 0))))
      exact this
theorem dI_rws {L : RLt} {ab : Nat} : ∀ n d T, n ≤ d → dI L ab n T = (rws L ab d T).find? (fun r => r.length == n)
  | 0, d, T, _ => by
    cases d with
    | zero =>
      unfold dI rws
      split <;> simp
    | succ d =>
      unfold dI rws
      split
      · simp
      · have key : ∀ k c, (ctn (okC L T ab) (fun c => (rws L ab d (doT L T ab c)).map (c :: ·)) k c).find? (fun r => r.length == 0) = none := by
          intro k
          induction k with
          | zero => intro c; rfl
          | succ k ih =>
            intro c
            unfold ctn
            split
            · rw [List.find?_append, ih (c + 1), List.find?_map]
              have : (rws L ab d (doT L T ab c)).find? ((fun r => r.length == 0) ∘ (c :: ·)) = none := by
                rw [List.find?_eq_none]
                intro x _
                simp
              rw [this]
              rfl
            · exact ih (c + 1)
        exact (key 60 0).symm
  | n + 1, d, T, h => by
    cases d with
    | zero => omega
    | succ d =>
      unfold dI rws
      split
      · simp
      · have key : ∀ k c, foF (okC L T ab) (fun c => (dI L ab n (doT L T ab c)).map (c :: ·)) k c = (ctn (okC L T ab) (fun c => (rws L ab d (doT L T ab c)).map (c :: ·)) k c).find? (fun r => r.length == n + 1) := by
          intro k
          induction k with
          | zero => intro c; rfl
          | succ k ih =>
            intro c
            unfold foF ctn
            split
            · rw [List.find?_append, List.find?_map, ← ih (c + 1), dI_rws n d (doT L T ab c) (by omega)]
              have e : ((fun r : List Nat => r.length == n + 1) ∘ (c :: ·)) = (fun r => r.length == n) := by
                funext r
                simp
              rw [e]
              cases List.find? (fun r => r.length == n) (rws L ab d (doT L T ab c)) <;> rfl
            · exact ih (c + 1)
        exact key 60 0
/-- the first of the shortest -/
def sho (R : List (List Nat)) (d : Nat) : Option (List Nat) := (fi (fun n => (R.find? (fun r => r.length == n)).isSome) (d + 1) 0).bind (fun n => R.find? (fun r => r.length == n))
theorem fi_least {Q : Nat → Bool} : ∀ {m k j : Nat}, k ≤ j → j < k + m → Q j = true → (∀ i, k ≤ i → i < j → Q i = false) → fi Q m k = some j
  | 0, k, j, a, b, _, _ => by omega
  | m + 1, k, j, a, b, hj, h => by
    unfold fi
    by_cases e : k = j
    · subst e
      rw [if_pos hj]
    · rw [if_neg (by rw [h k (Nat.le_refl _) (by omega)]; decide)]
      exact fi_least (by omega) (by omega) hj (fun i a' b' => h i (by omega) b')
theorem fi_none {Q : Nat → Bool} : ∀ {m k : Nat}, (∀ i, k ≤ i → i < k + m → Q i = false) → fi Q m k = none
  | 0, k, _ => rfl
  | m + 1, k, h => by
    unfold fi
    rw [if_neg (by rw [h k (Nat.le_refl _) (by omega)]; decide)]
    exact fi_none (fun i a b => h i (by omega) (by omega))
theorem fi_lo {Q : Nat → Bool} : ∀ {m k j : Nat}, fi Q m k = some j → ∀ i, k ≤ i → i < j → Q i = false
  | 0, k, j, h => by cases h
  | m + 1, k, j, h => by
    unfold fi at h
    split at h
    · cases h
      intro i a b
      omega
    · next nq =>
      intro i a b
      by_cases e : i = k
      · subst e
        simpa using nq
      · exact fi_lo h i (by omega) b
theorem fi_no {Q : Nat → Bool} : ∀ {m k : Nat}, fi Q m k = none → ∀ i, k ≤ i → i < k + m → Q i = false
  | 0, k, _ => fun i a b => by omega
  | m + 1, k, h => by
    unfold fi at h
    split at h
    · cases h
    · next nq =>
      intro i a b
      by_cases e : i = k
      · subst e
        simpa using nq
      · exact fi_no h i (by omega) (by omega)
theorem sho_fold (d : Nat) : ∀ (n : Nat) (R : List (List Nat)), R.length = n → (∀ r ∈ R, r.length ≤ d) → R.foldl (fun o r => mSh o r) none = sho R d
  | 0, R, hl, _ => by
    have e : R = [] := List.length_eq_zero_iff.mp hl
    subst e
    unfold sho
    rw [fi_none (fun i _ _ => by simp)]
    rfl
  | n + 1, R, hl, hd => by
    obtain ⟨R', r, rfl⟩ : ∃ R' r, R = R' ++ [r] := by
      rcases List.eq_nil_or_concat R with h | ⟨R', r, h⟩
      · subst h
        simp at hl
      · exact ⟨R', r, by simpa using h⟩
    have hl' : R'.length = n := by simpa using hl
    have ih := sho_fold d n R' hl' (fun q hq => hd q (by simp [hq]))
    have hr : r.length ≤ d := hd r (by simp)
    rw [List.foldl_append, ih]
    show mSh (sho R' d) r = _
    have ap : ∀ m, (R' ++ [r]).find? (fun q => q.length == m) = (R'.find? (fun q => q.length == m)).or (if r.length = m then some r else none) := by
      intro m
      rw [List.find?_append]
      congr 1
      by_cases e : r.length = m
      · simp [e]
      · simp [e]
    unfold sho
    cases q : fi (fun n => (R'.find? (fun r => r.length == n)).isSome) (d + 1) 0 with
    | none =>
      have no := fi_no q
      have nf : ∀ m, m ≤ d → R'.find? (fun q => q.length == m) = none := fun m hm => by
        have := no m (by omega) (by omega)
        simpa using this
      rw [fi_least (j := r.length) (by omega) (by omega) (by rw [ap]; simp) (fun i _ hi => by
        rw [ap, nf i (by omega), if_neg (by omega)]
        rfl)]
      show mSh none r = (R' ++ [r]).find? (fun q => q.length == r.length)
      rw [ap, nf r.length hr, if_pos rfl]
      rfl
    | some m =>
      have hm := fi_in q
      have lo := fi_lo q
      obtain ⟨x, hx⟩ := Option.isSome_iff_exists.mp hm.2.2
      have hxl : x.length = m := by simpa using List.find?_some hx
      show mSh (R'.find? (fun q => q.length == m)) r = _
      rw [hx]
      have nf : ∀ i, i < m → R'.find? (fun q => q.length == i) = none := fun i hi => by
        have := lo i (by omega) hi
        simpa using this
      by_cases e : r.length < m
      · rw [fi_least (j := r.length) (by omega) (by omega) (by rw [ap]; simp) (fun i _ hi => by
          rw [ap, nf i (by omega), if_neg (by omega)]
          rfl)]
        show (if r.length < x.length then some r else some x) = (R' ++ [r]).find? (fun q => q.length == r.length)
        rw [ap, nf r.length e, if_pos rfl, if_pos (by omega)]
        rfl
      · rw [fi_least (j := m) (by omega) (by omega) (by rw [ap, hx]; simp) (fun i _ hi => by
          rw [ap, nf i hi, if_neg (by omega)]
          rfl)]
        show (if r.length < x.length then some r else some x) = (R' ++ [r]).find? (fun q => q.length == m)
        rw [ap, hx, if_neg (by omega)]
        rfl
/-- the fewest, and the row: both roads give it -/
theorem few_eq (L : RLt) (ab d : Nat) (T : Tn) : (goA L ab d T [] 0 (0, 0, none, none)).2.2.1 = (fi (fun n => (dI L ab n T).isSome) (d + 1) 0).bind (fun n => dI L ab n T) := by
  rw [(goA_rws d T [] 0 (0, 0, none, none)).2]
  have h1 := sho_fold d _ (rws L ab d T) rfl (fun r hr => rws_len d T r hr)
  simp only [List.nil_append]
  rw [h1]
  unfold sho
  have e : ∀ m k, k + m ≤ d + 1 → fi (fun n => ((rws L ab d T).find? (fun r => r.length == n)).isSome) m k = fi (fun n => (dI L ab n T).isSome) m k := by
    intro m
    induction m with
    | zero => intro k _; rfl
    | succ m ih =>
      intro k hk
      unfold fi
      rw [← dI_rws k d T (by omega), ih (k + 1) (by omega)]
  rw [e (d + 1) 0 (by omega)]
  cases q : fi (fun n => (dI L ab n T).isSome) (d + 1) 0 with
  | none => rfl
  | some n =>
    have := fi_in q
    exact (dI_rws n d T (by omega)).symm
