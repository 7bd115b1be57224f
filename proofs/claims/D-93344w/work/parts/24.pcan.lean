/-! which changes can be, on both sides; they are made, and taken back -/
set_option maxRecDepth 100000
theorem bit_n : ∀ m, m < 64 → ∀ q, q < 6 → ((nI m >>> (nI q &&& 31)) &&& 1) = zI (m.testBit q) := by decide +kernel
theorem z1 (b : Bool) : (if zI b = 1 then some (1 : Int32) else some 0) = some (zI b) := by cases b <;> rfl
theorem fi_ext {Q : Nat → Bool} : ∀ {m m' k : Nat}, (∀ i, k + m ≤ i → i < k + m + m' → Q i = false) → fi Q (m + m') k = fi Q m k
  | 0, 0, k, _ => rfl
  | 0, m' + 1, k, h => by
    rw [Nat.zero_add]
    unfold fi
    rw [if_neg (by rw [h k (by omega) (by omega)]; decide)]
    have := fi_ext (Q := Q) (m := 0) (m' := m') (k := k + 1) (fun i a b => h i (by omega) (by omega))
    rw [Nat.zero_add] at this
    exact this
  | m + 1, m', k, h => by
    rw [show m + 1 + m' = (m + m') + 1 by omega]
    unfold fi
    rw [fi_ext (Q := Q) (m := m) (m' := m') (k := k + 1) (fun i a b => h i (by omega) (by omega))]
theorem nx_fi {Q : Nat → Bool} : ∀ m k, nx Q m k = (fi Q m k).getD (k + m)
  | 0, k => rfl
  | m + 1, k => by
    unfold nx fi
    by_cases q : Q k = true
    · rw [if_pos q, if_pos q]
      rfl
    · rw [if_neg q, if_neg q, nx_fi m (k + 1), show k + 1 + m = k + (m + 1) by omega]
theorem fo_fi {P Q : Nat → Bool} : ∀ k c, fo P (fun c (_ : Unit) => if Q c then (.inr c : Unit ⊕ Nat) else .inl ()) k c () = (match fi (fun c => P c && Q c) k c with | none => .inl () | some j => .inr j)
  | 0, _ => rfl
  | k + 1, c => by
    rw [fo_s]
    have ih := fo_fi (P := P) (Q := Q) k (c + 1)
    unfold fi
    cases p : P c with
    | false =>
      rw [Bool.false_and, if_neg (by decide), if_neg (by decide)]
      exact ih
    | true =>
      cases q : Q c with
      | false =>
        rw [Bool.true_and, if_pos rfl, if_neg (by decide), if_neg (by decide)]
        exact ih
      | true =>
        rw [Bool.true_and, if_pos rfl, if_pos rfl, if_pos rfl]
        rfl
theorem chg_hi {T : Tn} {c : Nat} (h : 10 * T 0 ≤ c) : chg T c = false := by
  unfold chg
  have : ¬ c / 10 < T 0 := by omega
  simp [this]
theorem chg_in {T : Tn} (w : WF T) {c : Nat} (h : chg T c = true) : c < 60 ∧ c / 10 < T 0 ∧ c / 10 < 6 ∧ (c % 10 = 9 ∨ (c % 10 < T 0 ∧ c % 10 < 6 ∧ c / 10 < c % 10)) := by
  have hn := w.n
  simp [chg] at h
  omega
def encA (c : Nat) : Int32 := if c < 60 then nI c else 99
def encN (c : Nat) : Int32 := if c < 60 then nI c else -3
def encM (c : Nat) : Int32 := if c < 60 then nI c else -1
section KRC
variable {g0 g : St} {T : Tn} {z : Int32} {ab : Nat} {E : EE} {L : RLt}
theorem kw_meet (h : KR g0 g T z ab) (w : WF T) {p q : Nat} (hp : p < 6) (hq : q < 6) : kF_meet g (nI p) (nI q) = some (zI (mee T p q)) := by
  unfold kF_meet
  rw [K_me h hp, Option.bind_some, bit_n _ (w.me hp) q hq, z1]
  rfl
theorem isIn_n {n p : Nat} (hn : n ≤ 6) (hp : p < 2 ^ 31) : kF_isIn (nI p) 0 (nI n - 1) = zI (decide (p < n)) := by
  unfold kF_isIn
  rw [if_neg (nI_pos hp)]
  have e : (nI n - 1).toInt = (n : Int) - 1 := pk_sub_toInt (a := n) (b := 1) (by omega) (by omega)
  have e2 := nI_toInt hp
  by_cases q : p < n
  · rw [if_neg]
    · simp [q, zI, nI_0]
    · rw [Int32.lt_iff_toInt_lt]
      omega
  · rw [if_pos]
    · simp [q, zI, nI_0]
    · rw [Int32.lt_iff_toInt_lt]
      omega
theorem kw_isPerson (h : KR g0 g T z ab) (w : WF T) {p : Nat} (hp : p < 2 ^ 31) : kF_isPerson g (nI p) = some (zI (decide (p < T 0))) := by
  unfold kF_isPerson
  rw [K_0 h, isIn_n w.n hp]
theorem kw_isChange (h : KR g0 g T z ab) (w : WF T) {c : Nat} (hc : c < 2 ^ 31) : kF_isChange g (nI c) = some (zI (chg T c)) := by
  have hn := w.n
  unfold kF_isChange
  rw [dv10 hc, Option.bind_some, rm10 hc, Option.bind_some, if_neg (nI_pos hc), kw_isPerson h w (by omega), Option.bind_some, iz]
  unfold chg
  by_cases a : c / 10 < T 0
  · rw [if_pos (by simp [a]), show (9 : Int32) = nI 9 from rfl, ie (by omega) (by omega)]
    by_cases b : c % 10 = 9
    · rw [if_pos b]
      simp [a, b, zI, nI_0]
    · rw [if_neg b, kw_isPerson h w (by omega), Option.bind_some, iz]
      by_cases d : c % 10 < T 0
      · rw [if_pos (by simp [d]), il (by omega) (by omega)]
        by_cases e : c % 10 ≤ c / 10
        · rw [if_pos e]
          have : ¬ c / 10 < c % 10 := by omega
          simp [a, b, d, this, zI, nI_0]
        · rw [if_neg e]
          have : c / 10 < c % 10 := by omega
          simp [a, b, d, this, zI, nI_0]
      · rw [if_neg (by simp [d])]
        simp [a, b, d, zI, nI_0]
  · rw [if_neg (by simp [a])]
    simp [a, zI, nI_0]
theorem kw_after (h : KR g0 g T z ab) (w : WF T) {x : Int32} {c : Nat} (hx : x + 1 = nI c) (hc : c ≤ 60) : kF_after g x = some (encA (nx (chg T) (60 - c) c)) := by
  have hn := w.n
  have e10 : (10 : Int32) * nI (T 0) = nI (10 * T 0) := pk_mul 10 (T 0)
  unfold kF_after
  rw [hx, K_0 h, e10]
  have hres : ∀ j, (∀ i, c ≤ i → i < j → chg T i = false) → c ≤ j → j ≤ 60 → (chg T j = true ∧ j < 60 ∨ (10 * T 0 ≤ j)) → (if nI (10 * T 0) ≤ nI j then some (99 : Int32) else some (nI j)) = some (encA (nx (chg T) (60 - c) c)) := by
    intro j hlo h1 h2 h3
    rw [il (by omega) (by omega), nx_fi]
    by_cases q : 10 * T 0 ≤ j
    · rw [if_pos q]
      have e : fi (chg T) (0 + (60 - c)) c = fi (chg T) 0 c := fi_ext (fun i a b => by
        by_cases r : i < j
        · exact hlo i (by omega) r
        · exact chg_hi (by omega))
      rw [Nat.zero_add] at e
      rw [e]
      show _ = some (encA (c + (60 - c)))
      unfold encA
      rw [if_neg (by omega)]
    · rw [if_neg q]
      have h4 := (h3.resolve_right q)
      have e : fi (chg T) (60 - c) c = some j := by
        clear h3 q hx hc
        have : ∀ m k, k ≤ j → j < k + m → (∀ i, k ≤ i → i < j → chg T i = false) → fi (chg T) m k = some j := by
          intro m
          induction m with
          | zero => intro k a b; omega
          | succ m ih =>
            intro k a b d
            unfold fi
            by_cases r : k = j
            · subst r
              rw [if_pos h4.1]
            · rw [if_neg (by rw [d k (Nat.le_refl _) (by omega)]; decide)]
              exact ih (k + 1) (by omega) (by omega) (fun i a' b' => d i (by omega) b')
        exact this _ _ h1 (by omega) hlo
      rw [e]
      show _ = some (encA j)
      unfold encA
      rw [if_pos h4.2]
  by_cases q : 10 * T 0 ≤ c
  · rw [iter_done (t := nI c) (by rw [if_pos (nI_le q (by omega))]), Option.bind_some]
    exact hres c (fun i a b => by omega) (Nat.le_refl _) hc (Or.inr q)
  · rw [iter_find (10 * T 0) (chg T) (fun k => nI k) (nI (10 * T 0)) (fun k hk => ?_) ?_ (10 * T 0 - c) c _ rfl (by omega), Option.bind_some]
    · cases r : fi (chg T) (10 * T 0 - c) c with
      | none =>
        dsimp only
        refine hres (10 * T 0) (fun i a b => ?_) (by omega) (by omega) (Or.inr (Nat.le_refl _))
        have : ∀ m k, fi (chg T) m k = none → ∀ i, k ≤ i → i < k + m → chg T i = false := by
          intro m
          induction m with
          | zero => intro k _ i a b; omega
          | succ m ih =>
            intro k hf i a b
            unfold fi at hf
            split at hf
            · cases hf
            · next nq =>
              by_cases e : i = k
              · subst e
                simpa using nq
              · exact ih (k + 1) hf i (by omega) (by omega)
        exact this _ _ r i a (by omega)
      | some j =>
        dsimp only
        have hj := fi_in r
        refine hres j (fun i a b => ?_) hj.1 (by omega) (Or.inl ⟨hj.2.2, by omega⟩)
        have : ∀ m k, fi (chg T) m k = some j → ∀ i, k ≤ i → i < j → chg T i = false := by
          intro m
          induction m with
          | zero => intro k hf; cases hf
          | succ m ih =>
            intro k hf i a b
            unfold fi at hf
            split at hf
            · cases hf
              omega
            · next nq =>
              by_cases e : i = k
              · subst e
                simpa using nq
              · exact ih (k + 1) hf i (by omega) (by omega)
        exact this _ _ r i a b
    · rw [if_pos (nI_le (Nat.le_refl _) (by omega))]
    · rw [if_neg (nI_ge hk (by omega)), kw_isChange h w (by omega), Option.bind_some, iz, nI_1]
theorem kw_can (h : KR g0 g T z ab) (w : WF T) (ha : ab ≤ 6) (hE : ER E L T) (hL : LOK L) {c : Nat} (hc : chg T c = true) : ∃ g', kF_can E g (nI c) = some (zI (can L T ab c), g') ∧ KR g0 g' T z ab ∧ ∀ b, b ≠ 15 → g' b = g b := by
  obtain ⟨c60, cp, p6, cq⟩ := chg_in w hc
  have b1 := w.ha p6
  have b2 := w.ne p6
  have b3 := w.ja b1
  have b4 := w.ja b2
  have b5 := w.co p6
  have b6 := pr_le w hL (ab := ab) p6
  have q69 : c % 10 < 6 ∨ c % 10 = 9 := by omega
  unfold kF_can
  rw [dv10 (by omega), Option.bind_some, rm10 (by omega), Option.bind_some, h.2.2.1]
  unfold can
  by_cases a1 : c / 10 = ab
  · rw [if_pos ((abI_eq (Or.inl p6) ha).mpr a1)]
    exact ⟨g, by simp [a1, zI, nI_0], h, fun _ _ => rfl⟩
  rw [if_neg (fun e => a1 ((abI_eq (Or.inl p6) ha).mp e))]
  by_cases a2 : c % 10 = ab
  · rw [if_pos ((abI_eq q69 ha).mpr a2)]
    exact ⟨g, by simp [a2, zI, nI_0], h, fun _ _ => rfl⟩
  rw [if_neg (fun e => a2 ((abI_eq q69 ha).mp e)), show (9 : Int32) = nI 9 from rfl, ie (by omega) (by omega)]
  have d1 : decide (c / 10 ≠ ab) = true := by simp [a1]
  have d2 : decide (c % 10 ≠ ab) = true := by simp [a2]
  rw [d1, d2, Bool.true_and, Bool.true_and]
  by_cases e9 : c % 10 = 9
  · rw [if_pos e9, if_pos e9]
    unfold kF_canTrade
    rw [kw_isWhole h w p6, Option.bind_some, iz]
    cases iw : isW T (c / 10) with
    | true =>
      rw [if_pos rfl]
      exact ⟨g, by simp [zI, Option.bind, un2, nI_0], h, fun _ _ => rfl⟩
    | false =>
      rw [if_neg (by decide), K_ne h p6, Option.bind_some, K_ja h b2, Option.bind_some, n0, il (by omega) (by omega)]
      by_cases j1 : T (14 + T (24 + 5 * (c / 10))) ≤ 0
      · rw [if_pos j1]
        have : ¬ 0 < T (14 + T (24 + 5 * (c / 10))) := by omega
        exact ⟨g, by simp [this, zI, Option.bind, un2, nI_0], h, fun _ _ => rfl⟩
      rw [if_neg j1, K_ha h p6, Option.bind_some, K_ja h b1, Option.bind_some, show (99 : Int32) = nI 99 from rfl, il (by omega) (by omega)]
      have j1' : 0 < T (14 + T (24 + 5 * (c / 10))) := by omega
      by_cases j2 : 99 ≤ T (14 + T (23 + 5 * (c / 10)))
      · rw [if_pos j2]
        have : ¬ T (14 + T (23 + 5 * (c / 10))) < 99 := by omega
        exact ⟨g, by simp [this, zI, Option.bind, un2, nI_0], h, fun _ _ => rfl⟩
      rw [if_neg j2]
      have j2' : T (14 + T (23 + 5 * (c / 10))) < 99 := by omega
      obtain ⟨g', r1, r2, r3⟩ := kw_price h w ha hE hL cp
      rw [r1, Option.bind_some]
      dsimp only [un2]
      rw [K_co r2 p6, Option.bind_some, it (by omega) (by omega)]
      by_cases j3 : T (25 + 5 * (c / 10)) < pr L T ab (c / 10)
      · rw [if_pos j3]
        have : ¬ pr L T ab (c / 10) ≤ T (25 + 5 * (c / 10)) := by omega
        exact ⟨g', by simp [this, zI, Option.bind, un2, nI_0], r2, r3⟩
      · rw [if_neg j3]
        have : pr L T ab (c / 10) ≤ T (25 + 5 * (c / 10)) := by omega
        exact ⟨g', by simp [this, j1', j2', zI, Option.bind, un2, nI_0], r2, r3⟩
  · rw [if_neg e9, if_neg e9]
    have q6 : c % 10 < 6 := by omega
    have b7 := w.ha q6
    have b8 := w.ne q6
    unfold kF_canExchange
    rw [kw_meet h w p6 q6, Option.bind_some, iz]
    cases im : mee T (c / 10) (c % 10) with
    | false =>
      rw [if_neg (by decide)]
      exact ⟨g, by simp [zI], h, fun _ _ => rfl⟩
    | true =>
      rw [if_pos rfl, kw_isWhole h w p6, Option.bind_some, iz]
      cases iw : isW T (c / 10) with
      | true =>
        rw [if_pos rfl]
        exact ⟨g, by simp [zI], h, fun _ _ => rfl⟩
      | false =>
        rw [if_neg (by decide), kw_isWhole h w q6, Option.bind_some, iz]
        cases iv : isW T (c % 10) with
        | true =>
          rw [if_pos rfl]
          exact ⟨g, by simp [zI], h, fun _ _ => rfl⟩
        | false =>
          rw [if_neg (by decide), K_ha h q6, Option.bind_some, K_ne h p6, Option.bind_some, ie (by omega) (by omega), K_ha h p6, Option.bind_some, K_ne h q6, Option.bind_some, ie (by omega) (by omega)]
          refine ⟨g, ?_, h, fun _ _ => rfl⟩
          by_cases k1 : T (23 + 5 * (c % 10)) = T (24 + 5 * (c / 10))
          · rw [if_pos k1]
            simp [k1, zI, nI_0]
          · rw [if_neg k1]
            by_cases k2 : T (23 + 5 * (c / 10)) = T (24 + 5 * (c % 10))
            · rw [if_pos k2]
              simp [k2, zI, nI_0]
            · rw [if_neg k2]
              simp [k1, k2, zI, nI_0]
/-- the next that can be -/
theorem kw_cans (h : KR g0 g T z ab) (w : WF T) (ha : ab ≤ 6) (hE : ER E L T) (hL : LOK L) {x : Int32} {c : Nat} (hx : x + 1 = nI c) (hx1 : (-1 : Int32) ≤ x) (hx2 : ¬ (60 : Int32) ≤ x) (hc : c ≤ 60) : ∃ g', kF_cans E g x = some (encN (nx (okC L T ab) (60 - c) c), g') ∧ KR g0 g' T z ab ∧ ∀ b, b ≠ 15 → g' b = g b := by
  unfold kF_cans
  rw [if_pos hx1, if_neg hx2, kw_after h w hx hc, Option.bind_some]
  obtain ⟨t, e1, e2⟩ := iter_nx (body := un2 fun s19a s19b =>
          if (99 : Int32) ≤ s19b then
            some (.inr (s19a, s19b))
          else
            (kF_can E s19a s19b).bind (un2 fun y22a y22b =>
            if y22a = 0 then
              (kF_after y22b s19b).bind fun x24 =>
              some (.inl (y22b, x24))
            else
              some (.inr (y22b, s19b)))) (chg T) (fun c (_ : Unit) => if can L T ab c then (.inr c : Unit ⊕ Nat) else .inl ()) 60 (fun _ c l => ∃ g', l = (g', encA c) ∧ KR g0 g' T z ab ∧ ∀ b, b ≠ 15 → g' b = g b) (fun _ t => ∃ g', t = (g', (99 : Int32)) ∧ KR g0 g' T z ab ∧ ∀ b, b ≠ 15 → g' b = g b) (fun r t => ∃ g', t = (g', nI r) ∧ KR g0 g' T z ab ∧ ∀ b, b ≠ 15 → g' b = g b)
    (by
      rintro s c' l hc' hP ⟨g1, rfl, k1, k3⟩
      obtain ⟨g2, r1, r2, r3⟩ := kw_can k1 w ha hE hL hP
      dsimp only [un2]
      have ec : encA c' = nI c' := by
        unfold encA
        rw [if_pos hc']
      rw [ec, show (99 : Int32) = nI 99 from rfl, if_neg (nI_ge (by omega) (by omega)), r1, Option.bind_some]
      dsimp only [un2]
      rw [iz]
      cases q : can L T ab c' with
      | true =>
        right
        exact ⟨c', (g2, nI c'), by simp, by simp, g2, rfl, r2, fun b n => (r3 b n).trans (k3 b n)⟩
      | false =>
        left
        refine ⟨(), (g2, encA (nx (chg T) (60 - (c' + 1)) (c' + 1))), by simp, ?_, g2, rfl, r2, fun b n => (r3 b n).trans (k3 b n)⟩
        rw [if_neg (by decide), kw_after r2 w (nI_1 c') (by omega), Option.bind_some])
    (by
      rintro s l ⟨g1, rfl, k1⟩
      refine ⟨(g1, 99), ?_, g1, rfl, k1⟩
      rfl) (60 - c) c () (g, encA (nx (chg T) (60 - c) c)) (by omega) ⟨g, rfl, h, fun _ _ => rfl⟩
  rw [e1, Option.bind_some]
  rw [fo_fi] at e2
  rw [nx_fi]
  have eo : (fun c => chg T c && can L T ab c) = okC L T ab := rfl
  rw [eo] at e2
  cases q : fi (okC L T ab) (60 - c) c with
  | none =>
    rw [q] at e2
    obtain ⟨g', rfl, k'⟩ := e2
    refine ⟨g', ?_, k'⟩
    dsimp only [un2, Option.getD_none]
    unfold encN
    rw [if_pos (by decide), if_neg (by omega)]
  | some j =>
    rw [q] at e2
    have hj := fi_in q
    obtain ⟨g', rfl, k'⟩ := e2
    refine ⟨g', ?_, k'⟩
    dsimp only [un2, Option.getD_some]
    unfold encN
    rw [show (99 : Int32) = nI 99 from rfl, if_neg (nI_ge (by omega) (by omega)), if_pos (by omega)]
end KRC
