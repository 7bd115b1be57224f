/-! the reference's barter; comes, dearest -/
set_option maxRecDepth 100000
section TBA
variable {E : EE} {L : RLt} {U : Nat → Int32} {en : Nat → Nat} {g0 h0 : St} {z : Int32}
theorem tw_barters : ∀ (d l : Nat) (T : Tn) (p r : Nat) (h : St), l < d → l ≤ 6 → WF T → p < 6 → TR h0 h T z U 6 → h 0 19 = nI r → ∃ h', tF_barters d h (nI p) (nI l) = some h' ∧ TR h0 h' T z U 6 ∧ h' 0 19 = nI (brA l T p r) := by
  intro d
  induction d with
  | zero => intro l T p r h hd; omega
  | succ d ih =>
    intro l T p r h hd hl w hp k hr
    have hn := w.n
    have b1 := w.ha hp
    have b1w := w.wo b1
    rw [tF_barters]
    dsimp only
    have pf1 : ∀ (s : St) (v : Int32), pf s 0 19 v = some (up2 s 0 19 v) := fun _ _ => rfl
    rw [T_ha k hp, Option.bind_some, hr, nI_bit _ (by omega), nI_or, pf1, Option.bind_some]
    have k2 := k.scr (b := 0) (i := 19) (nI (r ||| 2 ^ T (23 + 5 * p))) rfl
    have v2 : up2 h 0 19 (nI (r ||| 2 ^ T (23 + 5 * p))) 0 19 = nI (r ||| 2 ^ T (23 + 5 * p)) := up2_s
    generalize up2 h 0 19 (nI (r ||| 2 ^ T (23 + 5 * p))) = g2 at k2 v2
    cases l with
    | zero =>
      refine ⟨g2, ?_, k2, v2⟩
      apply iter_done
      dsimp only [un2]
      rw [T_0 k2, Option.bind_some]
      split
      · rfl
      · rw [if_pos (by decide)]
    | succ l =>
      obtain ⟨t, e1, e2⟩ := iter_inv (body := un2 fun s3a s3b =>
    (rd (s3a 1) 340 (0 : Int32)).bind fun x5 =>
    if x5 ≤ s3b then
      some (.inr s3a)
    else
      if nI (l + 1) ≤ 0 then
        some (.inr s3a)
      else
        (tF_its s3a s3b (1 : Int32)).bind fun x8 =>
        (tF_doMeet s3a (nI p) s3b).bind fun x9 =>
        if x9 = 0 then
          some (.inl (s3a, (s3b + (1 : Int32))))
        else
          if x8 = nI (T (23 + 5 * p)) then
            some (.inl (s3a, (s3b + (1 : Int32))))
          else
            (rd (s3a 1) 340 ((6 : Int32) + nI (T (23 + 5 * p)))).bind fun x11 =>
            (rd (s3a 1) 340 ((6 : Int32) + x8)).bind fun x12 =>
            if x11 < x12 then
              some (.inl (s3a, (s3b + (1 : Int32))))
            else
              (tF_swaps s3a (nI p) s3b).bind fun g13 =>
              (tF_barters d g13 (nI p) (nI (l + 1) - (1 : Int32))).bind fun g14 =>
              (tF_swaps g14 (nI p) s3b).bind fun g15 =>
              some (.inl (g15, (s3b + (1 : Int32))))) (fun i s => ∃ g', s = (g', nI i) ∧ TR h0 g' T z U 6 ∧ g' 0 19 = nI (foC (fun q => mee T p q && (decide (T (23 + 5 * p) ≠ T (23 + 5 * q)) && decide (T (6 + T (23 + 5 * q)) ≤ T (6 + T (23 + 5 * p))))) (fun q r => brA l (exc T p q) p r) i 0 (r ||| 2 ^ T (23 + 5 * p)))) (fun t => TR h0 t T z U 6 ∧ t 0 19 = nI (brA (l + 1) T p r)) (T 0)
        (by
          rintro i hi s ⟨g3, rfl, k3, v3⟩
          have i6 : i < 6 := by omega
          have bq := w.ha i6
          have bqw := w.wo bq
          dsimp only [un2]
          rw [foC_snoc, Nat.zero_add, T_0 k3, Option.bind_some, if_neg (nI_ge hi (by omega)), if_neg (show ¬ nI (l + 1) ≤ 0 from nI_nle (by omega) (by omega)), T_ha k3 i6, Option.bind_some, tw_doMeet k3 w hp i6, Option.bind_some, iz, ie (by omega) (by omega), T_wo k3 b1, Option.bind_some, T_wo k3 bq, Option.bind_some, it (by omega) (by omega), nI_1]
          cases x1 : mee T p i with
          | false =>
            rw [if_neg (by decide), if_neg (by simp)]
            exact ⟨_, rfl, g3, rfl, k3, v3⟩
          | true =>
            rw [if_pos rfl]
            by_cases x2 : T (23 + 5 * p) = T (23 + 5 * i)
            · rw [if_pos x2.symm, if_neg (show ¬ (true && (decide (T (23 + 5 * p) ≠ T (23 + 5 * i)) && decide (T (6 + T (23 + 5 * i)) ≤ T (6 + T (23 + 5 * p))))) = true by simp [x2])]
              exact ⟨_, rfl, g3, rfl, k3, v3⟩
            · rw [if_neg (fun e => x2 e.symm)]
              by_cases x3 : T (6 + T (23 + 5 * i)) ≤ T (6 + T (23 + 5 * p))
              · rw [if_neg (show ¬ T (6 + T (23 + 5 * p)) < T (6 + T (23 + 5 * i)) by omega), if_pos (show (true && (decide (T (23 + 5 * p) ≠ T (23 + 5 * i)) && decide (T (6 + T (23 + 5 * i)) ≤ T (6 + T (23 + 5 * p))))) = true by simp [x2, x3])]
                have hpi : p ≠ i := fun e => x2 (by rw [e])
                obtain ⟨g4, c1, c2, c3⟩ := tw_swaps k3 hp i6
                have hw := exc_WF w hp i6
                obtain ⟨g5, d1, d2, d3⟩ := ih l (exc T p i) p _ g4 (by omega) (by omega) hw hp c2 (by rw [c3 0 (by decide)]; exact v3)
                obtain ⟨g6, f1, f2, f3⟩ := tw_swaps d2 hp i6
                rw [c1, Option.bind_some, nI_pred, d1, Option.bind_some, f1, Option.bind_some]
                exact ⟨_, rfl, g6, rfl, f2.to (exc_back hpi), by rw [f3 0 (by decide)]; exact d3⟩
              · rw [if_pos (show T (6 + T (23 + 5 * p)) < T (6 + T (23 + 5 * i)) by omega), if_neg (show ¬ (true && (decide (T (23 + 5 * p) ≠ T (23 + 5 * i)) && decide (T (6 + T (23 + 5 * i)) ≤ T (6 + T (23 + 5 * p))))) = true by simp [x3])]
                exact ⟨_, rfl, g3, rfl, k3, v3⟩)
        (by
          rintro s ⟨g3, rfl, k3, v3⟩
          refine ⟨g3, ?_, k3, v3⟩
          dsimp only [un2]
          rw [T_0 k3, Option.bind_some, if_pos (nI_le (Nat.le_refl _) (by omega))]) (T 0) 0 (g2, (0 : Int32)) (by omega) ⟨g2, rfl, k2, v2⟩
      exact ⟨t, e1, e2.1, e2.2⟩
theorem kw_reachOf {T : Tn} {g : St} (k : KR g0 g T z 6) (w : WF T) {p n : Nat} (hp : p < 6) (hn : n ≤ 4) : ∃ g', kF_reachOf E g (nI p) (nI n) = some (nI (brA n T p 0), g') ∧ KR g0 g' T z 6 := by
  unfold kF_reachOf
  have pf1 : ∀ (s : St) (v : Int32), pf s 0 25 v = some (up2 s 0 25 v) := fun _ _ => rfl
  rw [pf1, Option.bind_some]
  obtain ⟨g', a1, a2, a3⟩ := kw_reaches (E := E) 6 n T p 0 _ (by omega) (by omega) w hp (k.scr (b := 0) (i := 25) 0 rfl) up2_s
  rw [a1, Option.bind_some, a3]
  exact ⟨g', rfl, a2⟩
theorem tw_isBarter {T : Tn} {h : St} (t : TR h0 h T z U 6) (w : WF T) (a1 a2 : Int32) : (tF_isBarter h a1 a2 = some 0 ∧ (kF_isIn a1 0 (nI (T 0) - 1) = 0 ∨ kF_isIn a2 0 4 = 0)) ∨ ∃ p n, p < T 0 ∧ n ≤ 4 ∧ a1 = nI p ∧ a2 = nI n ∧ tF_isBarter h a1 a2 = some 1 ∧ kF_isIn a1 0 (nI (T 0) - 1) = 1 ∧ kF_isIn a2 0 4 = 1 := by
  unfold tF_isBarter
  rw [tw_isPersonX t, Option.bind_some, show tF_in a2.toInt64 (0 : Int64) (4 : Int64) = kF_isIn a2 0 4 from tin a2 0 4]
  rcases isP_c a1 w.n with q | ⟨p, hp, rfl, q⟩
  · left
    rw [q, if_pos rfl]
    exact ⟨rfl, Or.inl rfl⟩
  rcases isI_c a2 (m := 4) (M := 4) rfl (by omega) with q2 | ⟨n, hn, rfl, q2⟩
  · left
    rw [q, if_neg c10, q2, if_pos rfl]
    exact ⟨rfl, Or.inr rfl⟩
  · right
    refine ⟨p, n, hp, hn, rfl, rfl, ?_, q, q2⟩
    rw [q, if_neg c10, q2, if_neg c10]
theorem pb_comes {T : Tn} {g h : St} (j : JT E L U en g0 h0 T z g h) (a1 a2 : Int32) : Pb E L U en g0 h0 (kF_comes E g a1 a2) (tF_comes h a1 a2) := by
  unfold kF_comes tF_comes
  rw [kw_isPersonX j.k, Option.bind_some]
  rcases tw_isBarter j.t j.w a1 a2 with ⟨q, q1⟩ | ⟨p, n, hp, hn, rfl, rfl, q, q1, q2⟩
  · rw [q, Option.bind_some, if_pos rfl]
    refine Pb.same (r := -1) j ?_ rfl
    rcases q1 with e | e
    · rw [e, if_pos rfl]
    · rw [e]
      split <;> rfl
  · rw [q, Option.bind_some, q1, q2, if_neg c10, if_neg c10, if_neg c10]
    obtain ⟨g', a1, a2⟩ := kw_reachOf (E := E) j.k j.w (j.w.p6 hp) hn
    have pf1 : ∀ (s : St) (v : Int32), pf s 0 19 v = some (up2 s 0 19 v) := fun _ _ => rfl
    obtain ⟨h', b1, b2, b3⟩ := tw_barters 6 n T p 0 _ (by omega) (by omega) j.w (j.w.p6 hp) (j.t.scr (b := 0) (i := 19) 0 rfl) up2_s
    rw [a1, pf1, Option.bind_some, Option.bind_some, b1, Option.bind_some, b3]
    exact Pb.to j rfl rfl a2 b2
end TBA
