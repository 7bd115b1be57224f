/-! a ring's members; barter -/
set_option maxRecDepth 100000
def lenR (a : RAcc) (s : Nat) : Prop := ∀ r, a.2 = some r → r.length = s
theorem rgA_len (T : Tn) (f : Nat) : ∀ d pre p us a s, pre.length + d = s → lenR a s → lenR (rgA T f d pre p us a) s
  | 0, pre, p, us, a, s, e, h => by
    unfold rgA
    split
    · intro r hr
      have hr : (if a.1 = 0 then some pre else a.2) = some r := hr
      split at hr
      · cases hr
        omega
      · exact h r hr
    · exact h
  | d + 1, pre, p, us, a, s, e, h => by
    unfold rgA
    have key : ∀ k c (b : RAcc), lenR b s → lenR (foC (fun q => !us.testBit q && (lnk T p q && !isW T q)) (fun q a => rgA T f d (pre ++ [q]) q (us ||| 2 ^ q) a) k c b) s := by
      intro k
      induction k with
      | zero => intro c b hb; exact hb
      | succ k ih =>
        intro c b hb
        unfold foC
        split
        · exact ih (c + 1) _ (rgA_len T f d (pre ++ [c]) c (us ||| 2 ^ c) b s (by simp; omega) hb)
        · exact ih (c + 1) b hb
    exact key _ _ a h
theorem rgF_len (T : Tn) (m : Nat) : ∀ i, lenR (rgF T m i) (m + 1)
  | 0 => fun r hr => by cases hr
  | i + 1 => by
    rw [rgF_s]
    split
    · exact rgA_len T i m [i] i (2 ^ i) _ (m + 1) (by simp; omega) (rgF_len T m i)
    · exact rgF_len T m i
/-- what one comes to by barter -/
def brA : Nat → Tn → Nat → Nat → Nat
  | 0, T, p, r => r ||| 2 ^ T (23 + 5 * p)
  | l + 1, T, p, r => foC (fun q => mee T p q && (decide (T (23 + 5 * p) ≠ T (23 + 5 * q)) && decide (T (6 + T (23 + 5 * q)) ≤ T (6 + T (23 + 5 * p))))) (fun q r => brA l (exc T p q) p r) (T 0) 0 (r ||| 2 ^ T (23 + 5 * p))
section PBA
variable {E : EE} {L : RLt} {U : Nat → Int32} {en : Nat → Nat} {g0 h0 : St} {z : Int32}
theorem pb_ring {T : Tn} {g h : St} (j : JT E L U en g0 h0 T z g h) (a1 a2 : Int32) : Pb E L U en g0 h0 (kF_ring E g a1 a2) (tF_ring h a1 a2) := by
  unfold kF_ring tF_ring
  rw [show tF_in a1.toInt64 (2 : Int64) (6 : Int64) = kF_isIn a1 2 6 from tin a1 2 6, show tF_in a2.toInt64 (0 : Int64) ((a1 - (1 : Int32))).toInt64 = kF_isIn a2 0 (a1 - 1) from tin a2 0 (a1 - 1)]
  rcases isJ_c a1 (a := 2) (m := 6) (A := 2) (M := 6) rfl rfl (by omega) (by omega) with q | ⟨m, h1, h2, rfl, q⟩
  · rw [q, if_pos rfl, if_pos rfl]
    exact Pb.same j rfl rfl
  obtain ⟨l, rfl⟩ : ∃ l, m = l + 1 := ⟨m - 1, by omega⟩
  rw [q, if_neg c10, if_neg c10, nI_pred]
  rcases isI_c a2 (m := l) (M := nI l) rfl (by omega) with q2 | ⟨i, hi, rfl, q2⟩
  · rw [q2, if_pos rfl, if_pos rfl]
    exact Pb.same j rfl rfl
  rw [q2, if_neg c10, if_neg c10]
  obtain ⟨g', b1, b2, b3⟩ := kw_findRings (E := E) j.k j.w (m := l) (by omega)
  obtain ⟨h', c1, c2, c3⟩ := tw_findRings j.t j.w (m := l) (by omega)
  have hlt := rgF_lt (T := T) j.w (m := l) (by omega)
  rw [b1, c1, Option.bind_some, Option.bind_some, b3.1, c3.1, il0 (by omega), ie0 (by omega)]
  by_cases e : (rgF T l (T 0)).1 = 0
  · rw [if_pos (by omega), if_pos e]
    exact Pb.to j rfl rfl b2 c2
  · obtain ⟨r, x1, x2⟩ := b3.2 e
    obtain ⟨r', y1, y2⟩ := c3.2 e
    have er : r' = r := Option.some.inj (y1.symm.trans x1)
    subst er
    have hl := rgF_len T l (T 0) r' x1
    rw [if_neg (by omega), if_neg e, rd_n (by omega) (by decide), rd_n (by omega) (by decide), row_get x2 (by omega), row_get y2 (by omega)]
    exact Pb.to j rfl rfl b2 c2
theorem kw_reaches : ∀ (d l : Nat) (T : Tn) (p r : Nat) (g : St), l < d → l ≤ 6 → WF T → p < 6 → KR g0 g T z 6 → g 0 25 = nI r → ∃ g', kF_reaches E d g (nI p) (nI l) = some g' ∧ KR g0 g' T z 6 ∧ g' 0 25 = nI (brA l T p r) := by
  intro d
  induction d with
  | zero => intro l T p r g hd; omega
  | succ d ih =>
    intro l T p r g hd hl w hp k hr
    have hn := w.n
    have b1 := w.ha hp
    have b1w := w.wo b1
    rw [kF_reaches]
    dsimp only
    have pf1 : ∀ (s : St) (v : Int32), pf s 0 25 v = some (up2 s 0 25 v) := fun _ _ => rfl
    rw [K_ha k hp, Option.bind_some, hr, nI_bit _ (by omega), nI_or, pf1, Option.bind_some]
    have k2 := k.scr (b := 0) (i := 25) (nI (r ||| 2 ^ T (23 + 5 * p))) rfl
    have v2 : up2 g 0 25 (nI (r ||| 2 ^ T (23 + 5 * p))) 0 25 = nI (r ||| 2 ^ T (23 + 5 * p)) := up2_s
    generalize up2 g 0 25 (nI (r ||| 2 ^ T (23 + 5 * p))) = g2 at k2 v2
    cases l with
    | zero =>
      refine ⟨g2, ?_, k2, v2⟩
      apply iter_done
      dsimp only [un2]
      split
      · rfl
      · rw [if_pos (by decide)]
    | succ l =>
      obtain ⟨t, e1, e2⟩ := iter_inv (body := un2 fun s3a s3b =>
    if (s3a 40 0) ≤ s3b then
      some (.inr s3a)
    else
      if nI (l + 1) ≤ 0 then
        some (.inr s3a)
      else
        (kF_meet s3a (nI p) s3b).bind fun x7 =>
        if x7 = 0 then
          some (.inl (s3a, (s3b + (1 : Int32))))
        else
          (rd (s3a 46) 6 (nI p)).bind fun x9 =>
          (rd (s3a 46) 6 s3b).bind fun x10 =>
          if x9 = x10 then
            some (.inl (s3a, (s3b + (1 : Int32))))
          else
            (rd (s3a 46) 6 (nI p)).bind fun x11 =>
            (rd (s3a 50) 8 x11).bind fun x12 =>
            (rd (s3a 46) 6 s3b).bind fun x13 =>
            (rd (s3a 50) 8 x13).bind fun x14 =>
            if x14 ≤ x12 then
              (kF_X3_exchange s3a (nI p) s3b).bind fun g15 =>
              (kF_reaches E d g15 (nI p) (nI (l + 1) - (1 : Int32))).bind fun g16 =>
              (kF_X3_exchange g16 (nI p) s3b).bind fun g17 =>
              some (.inl (g17, (s3b + (1 : Int32))))
            else
              some (.inl (s3a, (s3b + (1 : Int32))))) (fun i s => ∃ g', s = (g', nI i) ∧ KR g0 g' T z 6 ∧ g' 0 25 = nI (foC (fun q => mee T p q && (decide (T (23 + 5 * p) ≠ T (23 + 5 * q)) && decide (T (6 + T (23 + 5 * q)) ≤ T (6 + T (23 + 5 * p))))) (fun q r => brA l (exc T p q) p r) i 0 (r ||| 2 ^ T (23 + 5 * p)))) (fun t => KR g0 t T z 6 ∧ t 0 25 = nI (brA (l + 1) T p r)) (T 0)
        (by
          rintro i hi s ⟨g3, rfl, k3, v3⟩
          have i6 : i < 6 := by omega
          have bq := w.ha i6
          have bqw := w.wo bq
          dsimp only [un2]
          rw [foC_snoc, Nat.zero_add, if_neg (show ¬ g3 40 0 ≤ nI i by rw [K_0 k3]; exact nI_ge hi (by omega)), if_neg (show ¬ nI (l + 1) ≤ 0 from nI_nle (by omega) (by omega)), kw_meet k3 w hp i6, Option.bind_some, iz, K_ha k3 hp, Option.bind_some, K_ha k3 i6, Option.bind_some, ie (by omega) (by omega), Option.bind_some, K_wo k3 b1, Option.bind_some, Option.bind_some, K_wo k3 bq, Option.bind_some, il (by omega) (by omega), nI_1]
          cases x1 : mee T p i with
          | false =>
            rw [if_neg (by decide), if_neg (by simp)]
            exact ⟨_, rfl, g3, rfl, k3, v3⟩
          | true =>
            rw [if_pos rfl]
            by_cases x2 : T (23 + 5 * p) = T (23 + 5 * i)
            · rw [if_pos x2, if_neg (show ¬ (true && (decide (T (23 + 5 * p) ≠ T (23 + 5 * i)) && decide (T (6 + T (23 + 5 * i)) ≤ T (6 + T (23 + 5 * p))))) = true by simp [x2])]
              exact ⟨_, rfl, g3, rfl, k3, v3⟩
            · rw [if_neg x2]
              by_cases x3 : T (6 + T (23 + 5 * i)) ≤ T (6 + T (23 + 5 * p))
              · rw [if_pos x3, if_pos (show (true && (decide (T (23 + 5 * p) ≠ T (23 + 5 * i)) && decide (T (6 + T (23 + 5 * i)) ≤ T (6 + T (23 + 5 * p))))) = true by simp [x2, x3])]
                have hpi : p ≠ i := fun e => x2 (by rw [e])
                obtain ⟨g4, c1, c2, c3⟩ := kw_exchange k3 hp i6
                have hw := exc_WF w hp i6
                obtain ⟨g5, d1, d2, d3⟩ := ih l (exc T p i) p _ g4 (by omega) (by omega) hw hp c2 (by rw [c3 0 (by decide)]; exact v3)
                obtain ⟨g6, f1, f2, f3⟩ := kw_exchange d2 hp i6
                rw [c1, Option.bind_some, nI_pred, d1, Option.bind_some, f1, Option.bind_some]
                exact ⟨_, rfl, g6, rfl, f2.to (exc_back hpi), by rw [f3 0 (by decide)]; exact d3⟩
              · rw [if_neg x3, if_neg (show ¬ (true && (decide (T (23 + 5 * p) ≠ T (23 + 5 * i)) && decide (T (6 + T (23 + 5 * i)) ≤ T (6 + T (23 + 5 * p))))) = true by simp [x3])]
                exact ⟨_, rfl, g3, rfl, k3, v3⟩)
        (by
          rintro s ⟨g3, rfl, k3, v3⟩
          refine ⟨g3, ?_, k3, v3⟩
          dsimp only [un2]
          rw [if_pos (show g3 40 0 ≤ nI (T 0) by rw [K_0 k3]; exact nI_le (Nat.le_refl _) (by omega))]) (T 0) 0 (g2, (0 : Int32)) (by omega) ⟨g2, rfl, k2, v2⟩
      exact ⟨t, e1, e2.1, e2.2⟩
end PBA
