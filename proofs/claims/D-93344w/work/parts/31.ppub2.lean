/-! meets, things, the town's state, changes made and taken back -/
set_option maxRecDepth 100000
/-- who has (w = 1), who needs (w = 2) a thing -/
def thS (T : Tn) (w t : Nat) : Nat → Nat
  | 0 => 0
  | p + 1 => thS T w t p ||| (if T (22 + 5 * p + w) = t then 2 ^ p else 0)
def coS (T : Tn) : Nat → Nat
  | 0 => 0
  | p + 1 => coS T p + T (25 + 5 * p)
section PB2
variable {E : EE} {L : RLt} {U : Nat → Int32} {en : Nat → Nat} {g0 h0 : St} {T : Tn} {z : Int32} {g h : St} {ab : Nat}
theorem kw_those46 (k : KR g0 g T z ab) (w : WF T) {t : Nat} (ht : t < 8) : kF_those_0_46 g (nI t) = some (nI (thS T 1 t (T 0))) := by
  have hn := w.n
  unfold kF_those_0_46
  refine iter_up (fun i => (nI (thS T 1 t i), nI i)) (T 0) (fun i hi => ?_) ?_
  · have b := w.ha (p := i) (by omega)
    dsimp only [un2]
    rw [K_0 k, if_neg (nI_ge hi (by omega)), K_ha k (by omega), Option.bind_some, ie (by omega) (by omega), nI_bit i (by omega), n0, nI_or, nI_or, nI_1]
    show _ = some (Sum.inl (nI (thS T 1 t i ||| (if T (22 + 5 * i + 1) = t then 2 ^ i else 0)), nI (i + 1)))
    rw [show 22 + 5 * i + 1 = 23 + 5 * i by omega]
    split <;> rfl
  · dsimp only [un2]
    rw [K_0 k, if_pos (nI_le (Nat.le_refl _) (by omega))]
theorem kw_those47 (k : KR g0 g T z ab) (w : WF T) {t : Nat} (ht : t < 8) : kF_those_0_47 g (nI t) = some (nI (thS T 2 t (T 0))) := by
  have hn := w.n
  unfold kF_those_0_47
  refine iter_up (fun i => (nI (thS T 2 t i), nI i)) (T 0) (fun i hi => ?_) ?_
  · have b := w.ne (p := i) (by omega)
    dsimp only [un2]
    rw [K_0 k, if_neg (nI_ge hi (by omega)), K_ne k (by omega), Option.bind_some, ie (by omega) (by omega), nI_bit i (by omega), n0, nI_or, nI_or, nI_1]
    show _ = some (Sum.inl (nI (thS T 2 t i ||| (if T (22 + 5 * i + 2) = t then 2 ^ i else 0)), nI (i + 1)))
    rw [show 22 + 5 * i + 2 = 24 + 5 * i by omega]
    split <;> rfl
  · dsimp only [un2]
    rw [K_0 k, if_pos (nI_le (Nat.le_refl _) (by omega))]
theorem tw_whoWith (k : TR h0 h T z U ab) (w : WF T) {v t : Nat} {y : Int32} (hy : y = nI v) (hv : v = 1 ∨ v = 2) (ht : t < 8) : tF_whoWith h y (nI t) = some (nI (thS T v t (T 0))) := by
  have hn := w.n
  subst hy
  unfold tF_whoWith
  refine iter_up (fun i => (nI (thS T v t i), nI i)) (T 0) (fun i hi => ?_) ?_
  · have b : T (22 + 5 * i + v) < 8 := by
      rcases hv with e | e
      · subst e
        have := w.ha (p := i) (by omega)
        rw [show 22 + 5 * i + 1 = 23 + 5 * i by omega]
        exact this
      · subst e
        have := w.ne (p := i) (by omega)
        rw [show 22 + 5 * i + 2 = 24 + 5 * i by omega]
        exact this
    dsimp only [un2]
    rw [T_0 k, Option.bind_some, if_neg (nI_ge hi (by omega)), T_its k (w := v) rfl (by omega) (by omega), Option.bind_some, ie (by omega) (by omega), nI_bit i (by omega), n0, nI_or, nI_or, nI_1]
    show _ = some (Sum.inl (nI (thS T v t i ||| (if T (22 + 5 * i + v) = t then 2 ^ i else 0)), nI (i + 1)))
    split <;> rfl
  · dsimp only [un2]
    rw [T_0 k, Option.bind_some, if_pos (nI_le (Nat.le_refl _) (by omega))]
theorem kw_purse (k : KR g0 g T z ab) (w : WF T) : kF_X3_purse g = some (nI (coS T (T 0))) := by
  have hn := w.n
  unfold kF_X3_purse
  refine iter_up (fun i => (nI (coS T i), nI i)) (T 0) (fun i hi => ?_) ?_
  · dsimp only [un2]
    rw [K_0 k, if_neg (nI_ge hi (by omega)), K_co k (by omega), Option.bind_some, nI_add, nI_1]
    rfl
  · dsimp only [un2]
    rw [K_0 k, if_pos (nI_le (Nat.le_refl _) (by omega))]
theorem tw_coinsAll (k : TR h0 h T z U ab) (w : WF T) : tF_coinsAll h = some (nI (coS T (T 0))) := by
  have hn := w.n
  unfold tF_coinsAll
  refine iter_up (fun i => (nI (coS T i), nI i)) (T 0) (fun i hi => ?_) ?_
  · dsimp only [un2]
    rw [T_0 k, Option.bind_some, if_neg (nI_ge hi (by omega)), T_co k (by omega), Option.bind_some, nI_add, nI_1]
    rfl
  · dsimp only [un2]
    rw [T_0 k, Option.bind_some, if_pos (nI_le (Nat.le_refl _) (by omega))]
theorem pb_thing (j : JT E L U en g0 h0 T z g h) (a1 a2 : Int32) : ∃ r, kF_thing g a1 a2 = some r ∧ tF_thing h a1 a2 = some r := by
  unfold kF_thing tF_thing kF_isThing tF_isThing
  rw [show tF_in a1.toInt64 (0 : Int64) (7 : Int64) = kF_isIn a1 0 7 from tin a1 0 7]
  rcases isI_c a1 (m := 7) (M := 7) rfl (by omega) with q | ⟨i, hi, rfl, q⟩
  · rw [q, if_pos rfl, if_pos rfl]
    exact ⟨_, rfl, rfl⟩
  rw [q, if_neg c10, if_neg c10, K_wo j.k (by omega), T_wo j.t (by omega), K_ja j.k (by omega), T_ja j.t (by omega), kw_those46 j.k j.w (by omega), kw_those47 j.k j.w (by omega), tw_whoWith (y := 1) (v := 1) j.t j.w rfl (Or.inl rfl) (by omega), tw_whoWith (y := 2) (v := 2) j.t j.w rfl (Or.inr rfl) (by omega), Option.bind_some, Option.bind_some, Option.bind_some, Option.bind_some]
  split
  · exact ⟨_, rfl, rfl⟩
  · split
    · exact ⟨_, rfl, rfl⟩
    · split
      · exact ⟨_, rfl, rfl⟩
      · split <;> exact ⟨_, rfl, rfl⟩
theorem pb_state (j : JT E L U en g0 h0 T z g h) (a1 : Int32) : ∃ r, kF_state g a1 = some r ∧ tF_state h a1 = some r := by
  unfold kF_state tF_state
  rw [kw_whole j.k j.w, tw_wholeSet j.t j.w (by omega), kw_purse j.k j.w, tw_coinsAll j.t j.w, K_fee j.k, T_fee j.t, K_made j.k, T_made j.t, Option.bind_some, Option.bind_some, Option.bind_some, Option.bind_some]
  split
  · exact ⟨_, rfl, rfl⟩
  · split
    · exact ⟨_, rfl, rfl⟩
    · split
      · exact ⟨_, rfl, rfl⟩
      · split <;> exact ⟨_, rfl, rfl⟩
theorem clr6 : ∀ m, m < 64 → ∀ q, q < 6 → nI m &&& (nI (2 ^ q) ^^^ (-1)) = nI (clr m q) := by decide +kernel
theorem clr_lt : ∀ m, m < 64 → ∀ q, q < 6 → clr m q < 64 ∧ m ||| 2 ^ q < 64 := by decide
/-- what a set of those one meets becomes -/
def meV (is : Bool) (m q : Nat) : Nat := if is then m ||| 2 ^ q else clr m q
theorem meV_lt {is : Bool} {m q : Nat} (hm : m < 64) (hq : q < 6) : meV is m q < 64 := by
  have := clr_lt m hm q hq
  unfold meV
  split
  · exact this.2
  · exact this.1
theorem tw_lets (t : TR h0 h T z U 6) (w : WF T) {p q : Nat} (hp : p < 6) (hq : q < 6) (a3 : Int32) : ∃ h', tF_lets h (nI p) (nI q) a3 = some h' ∧ TR h0 h' (tup T (26 + 5 * p) (meV (decide (a3 ≠ 0)) (T (26 + 5 * p)) q)) z U 6 := by
  have hm := w.me hp
  unfold tF_lets
  have e4 : tF_at (nI p) 4 = nI (26 + 5 * p) := by
    rw [at_n p 4 (y := 4) rfl]
    congr 1
    omega
  rw [T_me t hp, Option.bind_some, nI_bit q (by omega), clr6 _ hm q hq, nI_or]
  by_cases e : a3 = 0
  · obtain ⟨h', b1, b2, -⟩ := t.wrT (26 + 5 * p) (clr (T (26 + 5 * p)) q) e4 (by omega) (by omega) (by omega)
    rw [if_pos e, b1, Option.bind_some]
    refine ⟨h', rfl, ?_⟩
    have : decide (a3 ≠ 0) = false := by simp [e]
    rw [this]
    exact b2
  · obtain ⟨h', b1, b2, -⟩ := t.wrT (26 + 5 * p) (T (26 + 5 * p) ||| 2 ^ q) e4 (by omega) (by omega) (by omega)
    rw [if_neg e, b1, Option.bind_some]
    refine ⟨h', rfl, ?_⟩
    have : decide (a3 ≠ 0) = true := by simp [e]
    rw [this]
    exact b2
theorem pb_meets (j : JT E L U en g0 h0 T z g h) (a1 a2 a3 : Int32) : Pb E L U en g0 h0 (kF_meets g a1 a2 a3) (tF_meets h a1 a2 a3) := by
  have w := j.w
  have k := j.k
  have t := j.t
  unfold kF_meets tF_meets
  rw [kw_isPersonX k, tw_isPersonX t, Option.bind_some, Option.bind_some]
  rcases isP_c a1 w.n with q | ⟨p, hp, rfl, q⟩
  · rw [q, if_pos rfl, if_pos rfl]
    exact Pb.same j rfl rfl
  rw [q, if_neg c10, if_neg c10, kw_isPersonX k, tw_isPersonX t, Option.bind_some, Option.bind_some]
  rcases isP_c a2 w.n with q | ⟨r, hr, rfl, q⟩
  · rw [q, if_pos rfl, if_pos rfl]
    exact Pb.same j rfl rfl
  rw [q, if_neg c10, if_neg c10]
  have p6 := w.p6 hp
  have r6 := w.p6 hr
  by_cases e : nI p = nI r
  · rw [if_pos e, if_pos e]
    exact Pb.same j rfl rfl
  have ne : p ≠ r := fun q => e (by rw [q])
  rw [if_neg e, if_neg e, kw_meet k w p6 r6, tw_doMeet t w p6 r6, Option.bind_some, Option.bind_some, iz]
  have wz : (if mee T p r = true then some (1 : Int32) else some 0) = some (zI (mee T p r)) := by
    cases mee T p r <;> rfl
  rw [wz, Option.bind_some, Option.bind_some]
  have m1 := w.me p6
  have m2 := w.me r6
  have v1 := meV_lt (is := decide (a3 ≠ 0)) m1 r6
  have v2 := meV_lt (is := decide (a3 ≠ 0)) m2 p6
  obtain ⟨h1, b1, b2⟩ := tw_lets t w p6 r6 a3
  have w1 : WF (tup T (26 + 5 * p) (meV (decide (a3 ≠ 0)) (T (26 + 5 * p)) r)) := w.set (by omega)
  obtain ⟨h2, c1, c2⟩ := tw_lets b2 w1 r6 p6 a3
  rw [tup_n (show 26 + 5 * r ≠ 26 + 5 * p by omega)] at c2
  rw [b1, Option.bind_some, c1, Option.bind_some]
  obtain ⟨g1, d1, d2, -⟩ := k.wrT (26 + 5 * p) (meV (decide (a3 ≠ 0)) (T (26 + 5 * p)) r) (n := 6) (by omega) (by omega) (by omega) (km_me p p6) p6 (by decide)
  obtain ⟨g2, f1, f2, -⟩ := d2.wrT (26 + 5 * r) (meV (decide (a3 ≠ 0)) (T (26 + 5 * r)) p) (n := 6) (by omega) (by omega) (by omega) (km_me r r6) r6 (by decide)
  have j1 := j.set w1 (by omega) (fun p hp => by omega) (fun q1 q2 => by omega) d2 b2
  have j2 := j1.set (i := 26 + 5 * r) (v := meV (decide (a3 ≠ 0)) (T (26 + 5 * r)) p) (w1.set (by omega)) (by omega) (fun p hp => by omega) (fun q1 q2 => by omega) f2 c2
  refine ⟨_, g2, h2, _, _, ?_, rfl, j2⟩
  have kme := K_me d2 r6
  rw [tup_n (show 26 + 5 * r ≠ 26 + 5 * p by omega)] at kme
  by_cases e3 : a3 = 0
  · have dd : decide (a3 ≠ 0) = false := by simp [e3]
    rw [dd] at d1 f1
    unfold meV at d1 f1
    rw [if_neg (by decide)] at d1 f1
    rw [if_pos e3, K_me k p6, Option.bind_some, nI_bit r (by omega), clr6 _ m1 r r6, Option.bind_some, d1, Option.bind_some, if_pos e3, kme, Option.bind_some, nI_bit p (by omega), clr6 _ m2 p p6, f1, Option.bind_some]
  · have dd : decide (a3 ≠ 0) = true := by simp [e3]
    rw [dd] at d1 f1
    unfold meV at d1 f1
    rw [if_pos rfl] at d1 f1
    rw [if_neg e3, K_me k p6, Option.bind_some, nI_bit r (by omega), nI_or, Option.bind_some, d1, Option.bind_some, if_neg e3, kme, Option.bind_some, nI_bit p (by omega), nI_or, f1, Option.bind_some]
theorem pb_report (j : JT E L U en g0 h0 T z g h) (a1 a2 a3 : Int32) : Pb E L U en g0 h0 (kF_report g a1 a2 a3) (tF_report h a1 a2 a3) := by
  have w := j.w
  have h3 : T 3 ≤ 6 := w.2.2.1
  unfold kF_report tF_report
  rw [show tF_in a1.toInt64 (0 : Int64) (99 : Int64) = kF_isIn a1 0 99 from tin a1 0 99, show tF_in a2.toInt64 (0 : Int64) (99 : Int64) = kF_isIn a2 0 99 from tin a2 0 99, show tF_in a3.toInt64 (0 : Int64) (999 : Int64) = kF_isIn a3 0 999 from tin a3 0 999]
  rcases isI_c a1 (m := 99) (M := 99) rfl (by omega) with q | ⟨u, hu, rfl, q⟩
  · rw [q, if_pos rfl, if_pos rfl]
    exact Pb.same j rfl rfl
  rw [q, if_neg c10, if_neg c10]
  rcases isI_c a2 (m := 99) (M := 99) rfl (by omega) with q | ⟨v, hv, rfl, q⟩
  · rw [q, if_pos rfl, if_pos rfl]
    exact Pb.same j rfl rfl
  rw [q, if_neg c10, if_neg c10]
  rcases isI_c a3 (m := 999) (M := 999) rfl (by omega) with q | ⟨x, hx, rfl, q⟩
  · rw [q, if_pos rfl, if_pos rfl]
    exact Pb.same j rfl rfl
  rw [q, if_neg c10, if_neg c10, K_rep j.k, T_rep j.t, Option.bind_some, show (6 : Int32) = nI 6 from rfl, ie (by omega) (by omega), ie (by omega) (by omega)]
  by_cases e6 : T 3 = 6
  · rw [if_pos e6, if_pos e6]
    exact Pb.same j rfl rfl
  have r6 : T 3 < 6 := by omega
  rw [if_neg e6, if_neg e6, Option.bind_some]
  have e52 : (52 : Int32) + (3 : Int32) * nI (T 3) = nI (52 + 3 * T 3) := by rw [show (3 : Int32) = nI 3 from rfl, pk_mul, show (52 : Int32) = nI 52 from rfl, nI_add]
  have e53 : nI (52 + 3 * T 3) + 1 = nI (53 + 3 * T 3) := by rw [nI_1]; congr 1; omega
  have e54 : nI (52 + 3 * T 3) + 2 = nI (54 + 3 * T 3) := by rw [show (2 : Int32) = nI 2 from rfl, nI_add]; congr 1; omega
  rw [e52, e53, e54]
  have w1 : WF (tup T (52 + 3 * T 3) u) := w.set (by omega)
  have w2 : WF (tup (tup T (52 + 3 * T 3) u) (53 + 3 * T 3) v) := w1.set (by omega)
  have w3 : WF (tup (tup (tup T (52 + 3 * T 3) u) (53 + 3 * T 3) v) (54 + 3 * T 3) x) := w2.set (by omega)
  obtain ⟨h1, b1, b2, -⟩ := j.t.wrT (52 + 3 * T 3) u rfl (by omega) (by omega) (by omega)
  obtain ⟨h2, b3, b4, -⟩ := b2.wrT (53 + 3 * T 3) v rfl (by omega) (by omega) (by omega)
  obtain ⟨h3', b5, b6, -⟩ := b4.wrT (54 + 3 * T 3) x rfl (by omega) (by omega) (by omega)
  obtain ⟨g1, c1, c2, c3⟩ := j.k.wrT (52 + 3 * T 3) u (n := 6) (by omega) (by omega) (by omega) (km_r0 _ r6) r6 (by decide)
  obtain ⟨g2, c4, c5, c6⟩ := c2.wrT (53 + 3 * T 3) v (n := 6) (by omega) (by omega) (by omega) (km_r1 _ r6) r6 (by decide)
  obtain ⟨g3, c7, c8, c9⟩ := c5.wrT (54 + 3 * T 3) x (n := 6) (by omega) (by omega) (by omega) (km_r2 _ r6) r6 (by decide)
  have k1 : g1 40 2 = nI (T 3) := by rw [K_rep c2, tup_n (by omega)]
  have k2 : g2 40 2 = nI (T 3) := by rw [K_rep c5, tup_n (by omega), tup_n (by omega)]
  have k3 : g3 40 2 = nI (T 3) := by rw [K_rep c8, tup_n (by omega), tup_n (by omega), tup_n (by omega)]
  have t3 := T_rep b6
  rw [tup_n (by omega), tup_n (by omega), tup_n (by omega)] at t3
  obtain ⟨h4, d1, d2, -⟩ := b6.wrT 3 (T 3 + 1) (x := 3) rfl (by omega) (by omega) (by omega)
  have t4 := T_rep d2
  rw [tup_s] at t4
  have a4 := c8.put 3 (T 3 + 1) (b := 40) (j := 2) (by omega) (by omega) (by omega) rfl
  rw [c1, Option.bind_some, k1, c4, Option.bind_some, k2, c7, Option.bind_some, k3, b1, Option.bind_some, b3, Option.bind_some, b5, Option.bind_some, t3, Option.bind_some, nI_1, d1, Option.bind_some, t4, Option.bind_some]
  have j1 := j.set w1 (by omega) (fun p hp => by omega) (fun q1 q2 => by omega) c2 b2
  have j2 := j1.set w2 (by omega) (fun p hp => by omega) (fun q1 q2 => by omega) c5 b4
  have j3 := j2.set w3 (by omega) (fun p hp => by omega) (fun q1 q2 => by omega) c8 b6
  have j4 := j3.set (i := 3) (v := T 3 + 1) (w3.set (by omega)) (by omega) (fun p hp => by omega) (fun q1 q2 => by omega) a4 d2
  exact ⟨_, _, _, _, _, by show some (up2 g3 40 2 (nI (T 3 + 1)) 40 2 - 1, up2 g3 40 2 (nI (T 3 + 1))) = _; rw [up2_s], rfl, j4⟩
end PB2
