/-! each change makes at least one more whole -/
set_option maxRecDepth 100000
theorem cnt_mono {P Q : Nat → Bool} : ∀ k c, (∀ i, c ≤ i → i < c + k → P i = true → Q i = true) → cnt P k c ≤ cnt Q k c
  | 0, _, _ => Nat.le_refl _
  | k + 1, c, h => by
    have ih := cnt_mono (P := P) (Q := Q) k (c + 1) (fun i a b => h i (by omega) (by omega))
    unfold cnt
    by_cases p : P c = true
    · rw [if_pos p, if_pos (h c (by omega) (by omega) p)]
      omega
    · rw [if_neg p]
      split <;> omega
theorem cnt_more {P Q : Nat → Bool} {j : Nat} : ∀ k c, (∀ i, c ≤ i → i < c + k → P i = true → Q i = true) → c ≤ j → j < c + k → P j = false → Q j = true → cnt P k c + 1 ≤ cnt Q k c
  | 0, c, _, h1, h2, _, _ => by omega
  | k + 1, c, h, h1, h2, h3, h4 => by
    unfold cnt
    by_cases e : c = j
    · subst e
      have := cnt_mono (P := P) (Q := Q) k (c + 1) (fun i a b => h i (by omega) (by omega))
      rw [if_neg (by rw [h3]; decide), if_pos h4]
      omega
    · have ih := cnt_more (P := P) (Q := Q) (j := j) k (c + 1) (fun i a b => h i (by omega) (by omega)) (by omega) (by omega) h3 h4
      by_cases p : P c = true
      · rw [if_pos p, if_pos (h c (by omega) (by omega) p)]
        omega
      · rw [if_neg p]
        split <;> omega
/-- how many are whole -/
def hwN (T : Tn) : Nat := cnt (isW T) (T 0) 0
theorem hwN_le (T : Tn) (w : WF T) : hwN T ≤ 6 := by
  have h1 := cnt_le_n (isW T) (T 0) 0
  have h2 := w.n
  unfold hwN
  omega
theorem hwN_do {T : Tn} {L : RLt} {ab c : Nat} (w : WF T) (hc : okC L T ab c = true) : hwN T + 1 ≤ hwN (doT L T ab c) := by
  obtain ⟨h1, h2⟩ := okC_in hc
  obtain ⟨c60, cp, p6, cq⟩ := chg_in w h1
  obtain ⟨d1, d2, d3, d4, d5⟩ := can_in h2
  have hn := w.n
  have b1 := w.ha p6
  have b2 := w.ne p6
  have e0 : doT L T ab c 0 = T 0 := do_o w hc (by omega)
  have ene : ∀ p, p < 6 → doT L T ab c (24 + 5 * p) = T (24 + 5 * p) := fun p hp => do_o w hc (by omega)
  unfold hwN
  rw [e0]
  by_cases c9 : c % 10 = 9
  · have hh : ∀ p, p < 6 → p ≠ c / 10 → doT L T ab c (23 + 5 * p) = T (23 + 5 * p) := by
      intro p hp hne
      unfold doT
      rw [if_pos c9]
      exact trd_o (by omega) (by omega) (by omega) (by omega)
    have hp' : doT L T ab c (23 + 5 * (c / 10)) = T (24 + 5 * (c / 10)) := by
      unfold doT
      rw [if_pos c9, trd_h]
    refine cnt_more (j := c / 10) (T 0) 0 (fun i _ hi q => ?_) (by omega) (by omega) d3 ?_
    · have hne : i ≠ c / 10 := fun e => by rw [e, d3] at q; cases q
      unfold isW at q ⊢
      rw [hh i (by omega) hne, ene i (by omega)]
      exact q
    · unfold isW
      rw [hp', ene _ p6]
      simp
  · have q6 : c % 10 < 6 := by omega
    have hpq : c / 10 ≠ c % 10 := by omega
    obtain ⟨f1, f2, f3⟩ := d5 c9
    have hh : ∀ p, p < 6 → p ≠ c / 10 → p ≠ c % 10 → doT L T ab c (23 + 5 * p) = T (23 + 5 * p) := by
      intro p hp hne hne2
      unfold doT
      rw [if_neg c9]
      exact exc_o (by omega) (by omega)
    have hp' : doT L T ab c (23 + 5 * (c / 10)) = T (23 + 5 * (c % 10)) := by
      unfold doT
      rw [if_neg c9, exc_p hpq]
    have hq' : doT L T ab c (23 + 5 * (c % 10)) = T (23 + 5 * (c / 10)) := by
      unfold doT
      rw [if_neg c9, exc_q]
    have mono : ∀ i, 0 ≤ i → i < 0 + T 0 → isW T i = true → isW (doT L T ab c) i = true := by
      intro i _ hi q
      have hne : i ≠ c / 10 := fun e => by rw [e, d3] at q; cases q
      have hne2 : i ≠ c % 10 := fun e => by rw [e, f2] at q; cases q
      unfold isW at q ⊢
      rw [hh i (by omega) hne hne2, ene i (by omega)]
      exact q
    rcases f3 with e | e
    · refine cnt_more (j := c / 10) (T 0) 0 mono (by omega) (by omega) d3 ?_
      unfold isW
      rw [hp', ene _ p6]
      simp [e]
    · refine cnt_more (j := c % 10) (T 0) 0 mono (by omega) (by omega) f2 ?_
      unfold isW
      rw [hq', ene _ q6]
      simp [e]
