/-! the reference: which changes can be; they are made, and taken back -/
set_option maxRecDepth 100000
theorem tin (x y w : Int32) : tF_in x.toInt64 y.toInt64 w.toInt64 = kF_isIn x y w := by
  unfold tF_in kF_isIn
  have e1 : (lg_cmp x.toInt64 y.toInt64 < 0) ↔ x < y := by
    rw [lg_cmp_lt, Int64.lt_iff_toInt_lt, Int32.lt_iff_toInt_lt, Int32.toInt_toInt64, Int32.toInt_toInt64]
  have e2 : (0 < lg_cmp x.toInt64 w.toInt64) ↔ w < x := by
    rw [lg_cmp_gt, Int64.lt_iff_toInt_lt, Int32.lt_iff_toInt_lt, Int32.toInt_toInt64, Int32.toInt_toInt64]
  by_cases a : x < y
  · rw [if_pos a, if_pos (e1.mpr a)]
  · rw [if_neg a, if_neg (fun q => a (e1.mp q))]
    by_cases b : w < x
    · rw [if_pos b, if_pos (e2.mpr b)]
    · rw [if_neg b, if_neg (fun q => b (e2.mp q))]
section TRC
variable {h0 h : St} {T : Tn} {z : Int32} {U : Nat → Int32} {ab : Nat} {L : RLt} {en : Nat → Nat}
theorem tw_isPersonX (k : TR h0 h T z U ab) (x : Int32) : tF_isPerson h x = some (kF_isIn x 0 (nI (T 0) - 1)) := by
  unfold tF_isPerson
  rw [T_0 k, Option.bind_some]
  exact congrArg some (tin x 0 (nI (T 0) - 1))
theorem tw_isPerson (k : TR h0 h T z U ab) (w : WF T) {p : Nat} (hp : p < 2 ^ 31) : tF_isPerson h (nI p) = some (zI (decide (p < T 0))) := by
  rw [tw_isPersonX k, isIn_n w.n hp]
theorem tw_isNumber (k : TR h0 h T z U ab) (w : WF T) {c : Nat} (hc : c < 2 ^ 31) : tF_isNumber h (nI c) = some (zI (chg T c)) := by
  have hn := w.n
  unfold tF_isNumber
  rw [if_neg (nI_pos hc), dv10 hc, Option.bind_some, rm10 hc, Option.bind_some]
  unfold tF_isChange
  rw [tw_isPerson k w (by omega), Option.bind_some, iz]
  unfold chg
  by_cases a : c / 10 < T 0
  · rw [if_pos (by simp [a]), show (9 : Int32) = nI 9 from rfl, ie (by omega) (by omega)]
    by_cases b : c % 10 = 9
    · rw [if_pos b]
      simp [a, b, zI, nI_0]
    · rw [if_neg b, il (by omega) (by omega)]
      by_cases e : c % 10 ≤ c / 10
      · rw [if_pos e]
        have : ¬ c / 10 < c % 10 := by omega
        simp [a, b, this, zI, nI_0]
      · rw [if_neg e, tw_isPerson k w (by omega), Option.bind_some, iz]
        have e' : c / 10 < c % 10 := by omega
        by_cases d : c % 10 < T 0
        · rw [if_pos (by simp [d])]
          simp [a, b, d, e', zI, nI_0]
        · rw [if_neg (by simp [d])]
          simp [a, b, d, zI, nI_0]
  · rw [if_neg (by simp [a])]
    simp [a, zI, nI_0]
theorem tw_isThere (k : TR h0 h T z U ab) (w : WF T) (ha : ab ≤ 6) {p : Nat} (hp : p < 6) : tF_isThere h (nI p) = some (zI (decide (p ≠ ab) && !isW T p)) := by
  unfold tF_isThere
  rw [k.2.2.2.1]
  by_cases e : p = ab
  · rw [if_pos ((abI_eq (Or.inl hp) ha).mpr e)]
    simp [e, zI, nI_0]
  · rw [if_neg (fun q => e ((abI_eq (Or.inl hp) ha).mp q)), tw_isWhole k w hp, Option.bind_some, iz]
    cases isW T p <;> simp [e, zI, nI_0]
theorem tw_doMeet (k : TR h0 h T z U ab) (w : WF T) {p q : Nat} (hp : p < 6) (hq : q < 6) : tF_doMeet h (nI p) (nI q) = some (zI (mee T p q)) := by
  unfold tF_doMeet
  rw [T_me k hp, Option.bind_some, bit_n _ (w.me hp) q hq, z1]
  rfl
theorem tw_canBe (k : TR h0 h T z U ab) (w : WF T) (ha : ab ≤ 6) (hU : UR U L en) (hL : LOK L) {c : Nat} (hc : chg T c = true) : ∃ h', tF_canBe h (nI c) = some (zI (can L T ab c), h') ∧ TR h0 h' T z U ab ∧ ∀ b, b ≠ 6 → h' b = h b := by
  obtain ⟨c60, cp, p6, cq⟩ := chg_in w hc
  have b1 := w.ha p6
  have b2 := w.ne p6
  have b3 := w.ja b1
  have b4 := w.ja b2
  have b5 := w.co p6
  have b6 := pr_le w hL (ab := ab) p6
  unfold tF_canBe
  rw [dv10 (by omega), Option.bind_some, rm10 (by omega), Option.bind_some, tw_isThere k w ha p6, Option.bind_some, iz]
  unfold can
  by_cases a1 : c / 10 = ab
  · rw [if_neg (by simp [a1])]
    exact ⟨h, by simp [a1, zI, nI_0], k, fun _ _ => rfl⟩
  cases iw : isW T (c / 10) with
  | true =>
    rw [if_neg (by simp)]
    refine ⟨h, ?_, k, fun _ _ => rfl⟩
    by_cases e9 : c % 10 = 9
    · simp [e9, zI, nI_0]
    · simp [e9, zI, nI_0]
  | false =>
    rw [if_pos (by simp [a1]), show (9 : Int32) = nI 9 from rfl, ie (by omega) (by omega)]
    by_cases e9 : c % 10 = 9
    · have a2 : c % 10 ≠ ab := by omega
      have d1 : decide (c / 10 ≠ ab) = true := by simp [a1]
      have d2 : decide (c % 10 ≠ ab) = true := by simp [a2]
      rw [d1, d2, Bool.true_and, Bool.true_and, if_pos e9, if_pos e9, T_ne k p6, Option.bind_some, T_ja k b2, Option.bind_some, n0, il (by omega) (by omega)]
      by_cases j1 : T (14 + T (24 + 5 * (c / 10))) ≤ 0
      · rw [if_pos j1]
        have : ¬ 0 < T (14 + T (24 + 5 * (c / 10))) := by omega
        exact ⟨h, by simp [this, zI, nI_0], k, fun _ _ => rfl⟩
      rw [if_neg j1, T_ha k p6, Option.bind_some, T_ja k b1, Option.bind_some, show (99 : Int32) = nI 99 from rfl, il (by omega) (by omega)]
      have j1' : 0 < T (14 + T (24 + 5 * (c / 10))) := by omega
      by_cases j2 : 99 ≤ T (14 + T (23 + 5 * (c / 10)))
      · rw [if_pos j2]
        have : ¬ T (14 + T (23 + 5 * (c / 10))) < 99 := by omega
        exact ⟨h, by simp [this, zI, nI_0], k, fun _ _ => rfl⟩
      rw [if_neg j2, T_co k p6, Option.bind_some]
      have j2' : T (14 + T (23 + 5 * (c / 10))) < 99 := by omega
      obtain ⟨h', r1, r2, r3⟩ := tw_asked k w ha hU hL cp
      rw [r1, Option.bind_some]
      dsimp only [un2]
      rw [it (by omega) (by omega)]
      by_cases j3 : T (25 + 5 * (c / 10)) < pr L T ab (c / 10)
      · rw [if_pos j3]
        have : ¬ pr L T ab (c / 10) ≤ T (25 + 5 * (c / 10)) := by omega
        exact ⟨h', by simp [this, zI, nI_0], r2, r3⟩
      · rw [if_neg j3]
        have : pr L T ab (c / 10) ≤ T (25 + 5 * (c / 10)) := by omega
        exact ⟨h', by simp [this, j1', j2', zI, nI_0], r2, r3⟩
    · have q6 : c % 10 < 6 := by omega
      have b7 := w.ha q6
      have b8 := w.ne q6
      have d1 : decide (c / 10 ≠ ab) = true := by simp [a1]
      rw [if_neg e9, if_neg e9, d1, Bool.true_and, tw_isThere k w ha q6, Option.bind_some, iz]
      by_cases a2 : c % 10 = ab
      · rw [if_neg (by simp [a2])]
        exact ⟨h, by simp [a2, zI, nI_0], k, fun _ _ => rfl⟩
      cases iv : isW T (c % 10) with
      | true =>
        rw [if_neg (by simp)]
        exact ⟨h, by simp [zI], k, fun _ _ => rfl⟩
      | false =>
        rw [if_pos (by simp [a2]), tw_doMeet k w p6 q6, Option.bind_some, iz]
        cases im : mee T (c / 10) (c % 10) with
        | false =>
          rw [if_neg (by decide)]
          exact ⟨h, by simp [zI], k, fun _ _ => rfl⟩
        | true =>
          rw [if_pos rfl, T_ha k p6, Option.bind_some, T_ne k q6, Option.bind_some, ie (by omega) (by omega), T_ha k q6, Option.bind_some, T_ne k p6, Option.bind_some, ie (by omega) (by omega)]
          refine ⟨h, ?_, k, fun _ _ => rfl⟩
          by_cases k2 : T (23 + 5 * (c / 10)) = T (24 + 5 * (c % 10))
          · rw [if_pos k2]
            simp [k2, a2, zI, nI_0]
          · rw [if_neg k2]
            by_cases k1 : T (23 + 5 * (c % 10)) = T (24 + 5 * (c / 10))
            · rw [if_pos k1]
              simp [k1, a2, zI, nI_0]
            · rw [if_neg k1]
              simp [k1, k2, zI, nI_0]
theorem tw_next (k : TR h0 h T z U ab) (w : WF T) (ha : ab ≤ 6) (hU : UR U L en) (hL : LOK L) {x : Int32} {c : Nat} (hx : x + 1 = nI c) (hx2 : ¬ nI 60 ≤ x) (hc : c ≤ 60) (hxc : ∀ n, n ≤ 60 → (nI n ≤ x ↔ n < c)) : ∃ h', tF_nextChange h x = some (encM (nx (okC L T ab) (60 - c) c), h') ∧ TR h0 h' T z U ab ∧ ∀ b, b ≠ 6 → h' b = h b := by
  have hn := w.n
  have e10 : (10 : Int32) * nI (T 0) = nI (10 * T 0) := pk_mul 10 (T 0)
  unfold tF_nextChange
  rw [T_0 k, Option.bind_some, hx, e10]
  have hi : ∀ i, 10 * T 0 ≤ i → okC L T ab i = false := by
    intro i hq
    unfold okC
    rw [chg_hi hq]
    rfl
  -- all is behind the last
  have out : ∀ (s : St) (i : Nat), c ≤ i → 10 * T 0 ≤ i → (∀ j, c ≤ j → j < i → okC L T ab j = false) → encM (nx (okC L T ab) (60 - c) c) = -1 := by
    intro s i h1 h2 h3
    rw [nx_fi]
    have e : fi (okC L T ab) (0 + (60 - c)) c = fi (okC L T ab) 0 c := fi_ext (fun j a b => by
      by_cases r : j < i
      · exact h3 j (by omega) r
      · exact hi j (by omega))
    rw [Nat.zero_add] at e
    rw [e]
    show encM (c + (60 - c)) = -1
    unfold encM
    rw [if_neg (by omega)]
  by_cases q : 10 * T 0 < c
  · refine ⟨h, ?_, k, fun _ _ => rfl⟩
    apply iter_done
    dsimp only [un2]
    rw [if_pos ((hxc _ (by omega)).mpr q), out h c (Nat.le_refl _) (by omega) (fun j a b => by omega)]
  · have nq : ¬ nI (10 * T 0) ≤ x := fun r => q ((hxc _ (by omega)).mp r)
    obtain ⟨t, e1, e2⟩ := iter_inx (body := un2 fun s2a s2b =>
    if nI (10 * T 0) ≤ x then
      some (.inr ((-1 : Int32), s2a))
    else
      if nI (10 * T 0) ≤ s2b then
        some (.inr ((-1 : Int32), s2a))
      else
        (tF_isNumber s2a s2b).bind fun x6 =>
        if x6 = 0 then
          some (.inl (s2a, (s2b + (1 : Int32))))
        else
          (tF_canBe s2a s2b).bind (un2 fun y8a y8b =>
          if y8a = 0 then
            some (.inl (y8b, (s2b + (1 : Int32))))
          else
            some (.inr (s2b, y8b)))) (fun i l => ∃ s, l = (s, nI i) ∧ c ≤ i ∧ TR h0 s T z U ab ∧ (∀ b, b ≠ 6 → s b = h b) ∧ ∀ j, c ≤ j → j < i → okC L T ab j = false) (fun t => ∃ s, t = (encM (nx (okC L T ab) (60 - c) c), s) ∧ TR h0 s T z U ab ∧ ∀ b, b ≠ 6 → s b = h b) (10 * T 0)
      (by
        rintro i hi1 l ⟨s, rfl, hci, ks, kf, hlo⟩
        dsimp only [un2]
        rw [if_neg nq, if_neg (nI_ge hi1 (by omega)), tw_isNumber ks w (by omega), Option.bind_some, iz]
        cases r : chg T i with
        | false =>
          left
          rw [if_neg (by decide)]
          refine ⟨(s, nI (i + 1)), by rw [nI_1], s, rfl, by omega, ks, kf, fun j a b => ?_⟩
          by_cases ej : j = i
          · subst ej
            unfold okC
            rw [r]
            rfl
          · exact hlo j a (by omega)
        | true =>
          rw [if_pos rfl]
          obtain ⟨s', r1, r2, r3⟩ := tw_canBe ks w ha hU hL r
          rw [r1, Option.bind_some]
          dsimp only [un2]
          rw [iz]
          cases rc : can L T ab i with
          | false =>
            left
            rw [if_neg (by decide)]
            refine ⟨(s', nI (i + 1)), by rw [nI_1], s', rfl, by omega, r2, fun b n => (r3 b n).trans (kf b n), fun j a b => ?_⟩
            by_cases ej : j = i
            · subst ej
              unfold okC
              rw [rc]
              simp
            · exact hlo j a (by omega)
          | true =>
            right
            rw [if_pos rfl]
            refine ⟨(nI i, s'), rfl, s', ?_, r2, fun b n => (r3 b n).trans (kf b n)⟩
            have hok : okC L T ab i = true := by
              unfold okC
              rw [r, rc]
              rfl
            have e : nx (okC L T ab) (60 - c) c = i := by
              have : ∀ m k, k ≤ i → i < k + m → (∀ j, k ≤ j → j < i → okC L T ab j = false) → nx (okC L T ab) m k = i := by
                intro m
                induction m with
                | zero => intro k a b; omega
                | succ m ih =>
                  intro k a b d
                  unfold nx
                  by_cases ek : k = i
                  · subst ek
                    rw [if_pos hok]
                  · rw [if_neg (by rw [d k (Nat.le_refl _) (by omega)]; decide)]
                    exact ih (k + 1) (by omega) (by omega) (fun j a' b' => d j (by omega) b')
              exact this _ _ hci (by omega) hlo
            rw [e]
            unfold encM
            rw [if_pos (by omega)])
      (by
        rintro l ⟨s, rfl, hci, ks, kf, hlo⟩
        refine ⟨((-1 : Int32), s), ?_, s, ?_, ks, kf⟩
        · dsimp only [un2]
          rw [if_neg nq, if_pos (nI_le (Nat.le_refl _) (by omega))]
        · rw [out s (10 * T 0) hci (Nat.le_refl _) hlo])
      (10 * T 0 - c) c (h, nI c) (by omega) ⟨h, rfl, Nat.le_refl _, k, fun _ _ => rfl, fun j a b => by omega⟩
    obtain ⟨s, rfl, ks⟩ := e2
    exact ⟨s, e1, ks⟩
theorem TR.wrT (k : TR h0 h T z U ab) (i v : Nat) {x : Int32} (hx : x = nI i) (hi : i < 106) (h1 : i ≠ 1) (h5 : i ≠ 5) : ∃ h', wr h 1 340 x (nI v) = some h' ∧ TR h0 h' (tup T i v) z U ab ∧ h' = up2 h 1 i (nI v) := ⟨_, wr_l i hx (by omega) (by decide), k.put i v hi h1 h5, rfl⟩
theorem TR.to (k : TR h0 h T z U ab) {T' : Tn} (e : T = T') : TR h0 h T' z U ab := e ▸ k
theorem add14 (p : Nat) : (14 : Int32) + nI p = nI (14 + p) := nI_add 14 p
theorem at1 (p : Nat) : tF_at (nI p) 1 = nI (23 + 5 * p) := by
  rw [at_n p 1 (y := 1) rfl]
  congr 1
  omega
theorem at3 (p : Nat) : tF_at (nI p) 3 = nI (25 + 5 * p) := by
  rw [at_n p 3 (y := 3) rfl]
  congr 1
  omega
theorem tw_swaps (k : TR h0 h T z U ab) {p q : Nat} (hp : p < 6) (hq : q < 6) : ∃ h', tF_swaps h (nI p) (nI q) = some h' ∧ TR h0 h' (exc T p q) z U ab ∧ ∀ b, b ≠ 1 → h' b = h b := by
  unfold tF_swaps
  rw [T_ha k hp, Option.bind_some, T_ha k hq, Option.bind_some]
  obtain ⟨g1, e1, k1, q1⟩ := k.wrT (23 + 5 * p) (T (23 + 5 * q)) (at1 p) (by omega) (by omega) (by omega)
  rw [e1, Option.bind_some]
  obtain ⟨g2, e2, k2, q2⟩ := k1.wrT (23 + 5 * q) (T (23 + 5 * p)) (at1 q) (by omega) (by omega) (by omega)
  rw [e2, Option.bind_some]
  refine ⟨g2, rfl, k2, fun b n1 => ?_⟩
  subst q2; subst q1
  unfold up2
  rw [if_neg n1, if_neg n1]
theorem tw_does (k : TR h0 h T z U ab) (w : WF T) (ha : ab ≤ 6) (hU : UR U L en) (hL : LOK L) {c : Nat} (hc : okC L T ab c = true) : ∃ h', tF_does h (nI c) = some h' ∧ TR h0 h' (doT L T ab c) z U ab ∧ h' 0 6 = nI (T (23 + 5 * (c / 10))) ∧ h' 0 7 = nI (cst L T ab c) ∧ (∀ b, b ≠ 0 → b ≠ 1 → b ≠ 6 → h' b = h b) ∧ ∀ i, i ≠ 6 → i ≠ 7 → h' 0 i = h 0 i := by
  obtain ⟨h1, h2⟩ := okC_in hc
  obtain ⟨c60, cp, p6, cq⟩ := chg_in w h1
  obtain ⟨d1, d2, d3, d4, d5⟩ := can_in h2
  have b1 := w.ha p6
  have b2 := w.ne p6
  have hne : T (23 + 5 * (c / 10)) ≠ T (24 + 5 * (c / 10)) := by simpa [isW] using d3
  unfold tF_does doT cst
  rw [dv10 (by omega), Option.bind_some, rm10 (by omega), Option.bind_some, T_ha k p6, Option.bind_some]
  unfold pf
  rw [Option.bind_some, Option.bind_some, show (9 : Int32) = nI 9 from rfl, ie (by omega) (by omega)]
  have k5 := (k.scr (b := 0) (i := 6) (nI (T (23 + 5 * (c / 10)))) rfl).scr (b := 0) (i := 7) (0 : Int32) rfl
  have g6 : up2 (up2 h 0 6 (nI (T (23 + 5 * (c / 10))))) 0 7 0 0 6 = nI (T (23 + 5 * (c / 10))) := by
    rw [up2_n (by omega), up2_s]
  have gb : ∀ b, b ≠ 0 → up2 (up2 h 0 6 (nI (T (23 + 5 * (c / 10))))) 0 7 0 b = h b := fun b n => by rw [up2_o n, up2_o n]
  have g0i : ∀ i, i ≠ 6 → i ≠ 7 → up2 (up2 h 0 6 (nI (T (23 + 5 * (c / 10))))) 0 7 0 0 i = h 0 i := fun i n1 n2 => by rw [up2_n (by omega), up2_n (by omega)]
  by_cases q : c % 10 = 9
  · rw [if_pos q, if_pos q, if_pos q]
    obtain ⟨f1, f2, f3⟩ := d4 q
    obtain ⟨s, r1, r2, r3⟩ := tw_asked k5 w ha hU hL cp
    rw [r1, Option.bind_some]
    dsimp only [un2]
    rw [Option.bind_some]
    have k7 := r2.scr (b := 0) (i := 7) (nI (pr L T ab (c / 10))) rfl
    have e6 : up2 s 0 7 (nI (pr L T ab (c / 10))) 0 6 = nI (T (23 + 5 * (c / 10))) := by
      rw [up2_n (by omega), r3 0 (by decide)]
      exact g6
    have e7 : up2 s 0 7 (nI (pr L T ab (c / 10))) 0 7 = nI (pr L T ab (c / 10)) := up2_s
    have eb : ∀ b, b ≠ 0 → b ≠ 6 → up2 s 0 7 (nI (pr L T ab (c / 10))) b = h b := fun b n1 n2 => by rw [up2_o n1, r3 b n2, gb b n1]
    have e0 : ∀ i, i ≠ 6 → i ≠ 7 → up2 s 0 7 (nI (pr L T ab (c / 10))) 0 i = h 0 i := fun i n1 n2 => by rw [up2_n (by omega), r3 0 (by decide), g0i i n1 n2]
    generalize up2 s 0 7 (nI (pr L T ab (c / 10))) = s7 at k7 e6 e7 eb e0
    rw [e6, T_ja k7 b1, Option.bind_some, nI_1]
    obtain ⟨s1, w1, m1, q1⟩ := k7.wrT (14 + T (23 + 5 * (c / 10))) (T (14 + T (23 + 5 * (c / 10))) + 1) (add14 _) (by omega) (by omega) (by omega)
    rw [w1, Option.bind_some, T_ne m1 p6, Option.bind_some, tup_n (by omega), T_ja m1 b2, Option.bind_some, tup_n (by omega), nI_m1 f1]
    obtain ⟨s2, w2, m2, q2⟩ := m1.wrT (14 + T (24 + 5 * (c / 10))) (T (14 + T (24 + 5 * (c / 10))) - 1) (add14 _) (by omega) (by omega) (by omega)
    rw [w2, Option.bind_some, T_ne m2 p6, Option.bind_some, tup_n (by omega), tup_n (by omega)]
    obtain ⟨s3, w3, m3, q3⟩ := m2.wrT (23 + 5 * (c / 10)) (T (24 + 5 * (c / 10))) (at1 _) (by omega) (by omega) (by omega)
    have z7 : s3 0 7 = nI (pr L T ab (c / 10)) := by
      rw [q3, q2, q1, up2_o (by decide), up2_o (by decide), up2_o (by decide)]
      exact e7
    rw [w3, Option.bind_some, m3.rdT (25 + 5 * (c / 10)) (at3 _) (by omega) (by omega) (by omega), Option.bind_some, tup_n (by omega), tup_n (by omega), tup_n (by omega), z7, pk_sub f3]
    obtain ⟨s4, w4, m4, q4⟩ := m3.wrT (25 + 5 * (c / 10)) (T (25 + 5 * (c / 10)) - pr L T ab (c / 10)) (at3 _) (by omega) (by omega) (by omega)
    rw [w4, Option.bind_some]
    have fr : ∀ b, b ≠ 1 → s4 b = s7 b := fun b n => by rw [q4, q3, q2, q1, up2_o n, up2_o n, up2_o n, up2_o n]
    refine ⟨s4, rfl, m4.to ?_, ?_, ?_, fun b n1 n2 n3 => ?_, fun i n1 n2 => ?_⟩
    · unfold trd
      have e14 : tup T (14 + T (23 + 5 * (c / 10))) (T (14 + T (23 + 5 * (c / 10))) + 1) (14 + T (24 + 5 * (c / 10))) = T (14 + T (24 + 5 * (c / 10))) := tup_n (by omega)
      rw [e14]
    · rw [fr 0 (by decide)]; exact e6
    · rw [fr 0 (by decide)]; exact e7
    · rw [fr b n2]; exact eb b n1 n3
    · rw [fr 0 (by decide)]; exact e0 i n1 n2
  · rw [if_neg q, if_neg q, if_neg q]
    obtain ⟨s, r1, r2, r3⟩ := tw_swaps k5 p6 (q := c % 10) (by omega)
    rw [r1, Option.bind_some]
    refine ⟨s, rfl, r2, ?_, ?_, fun b n1 n2 _ => ?_, fun i n1 n2 => ?_⟩
    · rw [r3 0 (by decide)]
      exact g6
    · rw [r3 0 (by decide), up2_s]
      rfl
    · rw [r3 b n2]; exact gb b n1
    · rw [r3 0 (by decide)]; exact g0i i n1 n2
theorem tw_undoes {h : St} (w : WF T) {c : Nat} (hc : okC L T ab c = true) (k : TR h0 h (doT L T ab c) z U ab) : ∃ h', tF_undoes h (nI c) (nI (T (23 + 5 * (c / 10)))) (nI (cst L T ab c)) = some h' ∧ TR h0 h' T z U ab ∧ ∀ b, b ≠ 1 → h' b = h b := by
  obtain ⟨h1, h2⟩ := okC_in hc
  obtain ⟨c60, cp, p6, cq⟩ := chg_in w h1
  obtain ⟨d1, d2, d3, d4, d5⟩ := can_in h2
  have wd := do_WF w hc
  have hu := un_do w hc
  have hne : T (23 + 5 * (c / 10)) ≠ T (24 + 5 * (c / 10)) := by simpa [isW] using d3
  unfold tF_undoes
  unfold unT at hu
  rw [dv10 (by omega), Option.bind_some, rm10 (by omega), Option.bind_some, show (9 : Int32) = nI 9 from rfl, ie (by omega) (by omega)]
  by_cases q : c % 10 = 9
  · rw [if_pos q]
    rw [if_pos q] at hu
    have hj : 1 ≤ doT L T ab c (14 + T (23 + 5 * (c / 10))) := by
      unfold doT
      rw [if_pos q, trd_j1 (w.ha p6) hne]
      omega
    have hd : doT L T ab c (23 + 5 * (c / 10)) ≠ T (23 + 5 * (c / 10)) := by
      unfold doT
      rw [if_pos q, trd_h]
      exact fun z => hne z.symm
    have bd := wd.ha p6
    have b1 := w.ha p6
    generalize doT L T ab c = D at k hu hj hd bd
    rw [T_ha k p6, Option.bind_some, T_ja k bd, Option.bind_some, nI_1]
    obtain ⟨s1, w1, m1, q1⟩ := k.wrT (14 + D (23 + 5 * (c / 10))) (D (14 + D (23 + 5 * (c / 10))) + 1) (add14 _) (by omega) (by omega) (by omega)
    rw [w1, Option.bind_some, T_ja m1 b1, Option.bind_some, tup_n (by omega), nI_m1 hj]
    obtain ⟨s2, w2, m2, q2⟩ := m1.wrT (14 + T (23 + 5 * (c / 10))) (D (14 + T (23 + 5 * (c / 10))) - 1) (add14 _) (by omega) (by omega) (by omega)
    rw [w2, Option.bind_some]
    obtain ⟨s3, w3, m3, q3⟩ := m2.wrT (23 + 5 * (c / 10)) (T (23 + 5 * (c / 10))) (at1 _) (by omega) (by omega) (by omega)
    rw [w3, Option.bind_some, m3.rdT (25 + 5 * (c / 10)) (at3 _) (by omega) (by omega) (by omega), Option.bind_some, tup_n (by omega), tup_n (by omega), tup_n (by omega), nI_add]
    obtain ⟨s4, w4, m4, q4⟩ := m3.wrT (25 + 5 * (c / 10)) (D (25 + 5 * (c / 10)) + cst L T ab c) (at3 _) (by omega) (by omega) (by omega)
    rw [w4, Option.bind_some]
    refine ⟨s4, rfl, m4.to ?_, fun b n => by rw [q4, q3, q2, q1, up2_o n, up2_o n, up2_o n, up2_o n]⟩
    refine Eq.trans ?_ hu
    unfold trd
    have e14 : tup D (14 + D (23 + 5 * (c / 10))) (D (14 + D (23 + 5 * (c / 10))) + 1) (14 + T (23 + 5 * (c / 10))) = D (14 + T (23 + 5 * (c / 10))) := tup_n (by omega)
    rw [e14]
  · rw [if_neg q]
    rw [if_neg q] at hu
    obtain ⟨g2, s1, s2, s3⟩ := tw_swaps k p6 (q := c % 10) (by omega)
    rw [s1, Option.bind_some]
    exact ⟨g2, rfl, s2.to hu, s3⟩
end TRC
