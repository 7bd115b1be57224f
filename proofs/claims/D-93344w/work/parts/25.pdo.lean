/-! a change is made, and taken back -/
set_option maxRecDepth 100000
theorem nI_m1 {n : Nat} (h : 1 ≤ n) : nI n - 1 = nI (n - 1) := by
  have := nI_pred (n - 1)
  rw [show n - 1 + 1 = n by omega] at this
  exact this
theorem sub_neg (a b : Nat) : nI a - (-(nI b)) = nI (a + b) := by
  rw [← nI_add]
  apply Int32.toBitVec_inj.mp
  show (nI a).toBitVec - (-(nI b).toBitVec) = (nI a).toBitVec + (nI b).toBitVec
  generalize (nI a).toBitVec = x
  generalize (nI b).toBitVec = y
  rw [BitVec.sub_eq_add_neg, BitVec.neg_neg]
theorem can_in {L : RLt} {T : Tn} {ab c : Nat} (h : can L T ab c = true) : c / 10 ≠ ab ∧ c % 10 ≠ ab ∧ isW T (c / 10) = false ∧ (c % 10 = 9 → 0 < T (14 + T (24 + 5 * (c / 10))) ∧ T (14 + T (23 + 5 * (c / 10))) < 99 ∧ pr L T ab (c / 10) ≤ T (25 + 5 * (c / 10))) ∧ (c % 10 ≠ 9 → mee T (c / 10) (c % 10) = true ∧ isW T (c % 10) = false ∧ (T (23 + 5 * (c % 10)) = T (24 + 5 * (c / 10)) ∨ T (23 + 5 * (c / 10)) = T (24 + 5 * (c % 10)))) := by
  unfold can at h
  by_cases q : c % 10 = 9
  · rw [if_pos q] at h
    simp at h
    exact ⟨h.1.1, h.1.2, h.2.1.1.1, fun _ => ⟨h.2.1.1.2, h.2.1.2, h.2.2⟩, fun z => absurd q z⟩
  · rw [if_neg q] at h
    simp at h
    exact ⟨h.1.1, h.1.2, h.2.1.1.2, fun z => absurd z q, fun _ => ⟨h.2.1.1.1, h.2.1.2, h.2.2⟩⟩
theorem okC_in {L : RLt} {T : Tn} {ab c : Nat} (h : okC L T ab c = true) : chg T c = true ∧ can L T ab c = true := by
  unfold okC at h
  simpa using h
/-- what a trade leaves: fields other than these are as they were -/
theorem trd_o {T : Tn} {p th nc i : Nat} (h1 : i ≠ 14 + T (23 + 5 * p)) (h2 : i ≠ 14 + th) (h3 : i ≠ 23 + 5 * p) (h4 : i ≠ 25 + 5 * p) : trd T p th nc i = T i := by
  unfold trd
  rw [tup_n h4, tup_n h3, tup_n h2, tup_n h1]
theorem trd_h {T : Tn} {p th nc : Nat} : trd T p th nc (23 + 5 * p) = th := by
  unfold trd
  rw [tup_n (by omega), tup_s]
theorem trd_c {T : Tn} {p th nc : Nat} : trd T p th nc (25 + 5 * p) = nc := by
  unfold trd
  rw [tup_s]
theorem trd_j1 {T : Tn} {p th nc : Nat} (hp : T (23 + 5 * p) < 8) (hne : T (23 + 5 * p) ≠ th) : trd T p th nc (14 + T (23 + 5 * p)) = T (14 + T (23 + 5 * p)) + 1 := by
  unfold trd
  rw [tup_n (by omega), tup_n (by omega), tup_n (by omega), tup_s]
theorem trd_j2 {T : Tn} {p th nc : Nat} (hp : T (23 + 5 * p) < 8) (ht : th < 8) (hne : T (23 + 5 * p) ≠ th) : trd T p th nc (14 + th) = T (14 + th) - 1 := by
  unfold trd
  rw [tup_n (by omega), tup_n (by omega), tup_s, tup_n (by omega)]
theorem trd_back {T : Tn} {p th nc : Nat} (hp : T (23 + 5 * p) < 8) (ht : th < 8) (hne : T (23 + 5 * p) ≠ th) (h1 : 1 ≤ T (14 + th)) : trd (trd T p th nc) p (T (23 + 5 * p)) (T (25 + 5 * p)) = T := by
  funext i
  by_cases a4 : i = 25 + 5 * p
  · subst a4
    exact trd_c
  by_cases a3 : i = 23 + 5 * p
  · subst a3
    exact trd_h
  have e1 : trd T p th nc (23 + 5 * p) = th := trd_h
  by_cases a2 : i = 14 + th
  · subst a2
    have := trd_j1 (T := trd T p th nc) (p := p) (th := T (23 + 5 * p)) (nc := T (25 + 5 * p)) (by rw [e1]; exact ht) (by rw [e1]; exact fun z => hne z.symm)
    rw [e1] at this
    rw [this, trd_j2 hp ht hne]
    omega
  by_cases a1 : i = 14 + T (23 + 5 * p)
  · subst a1
    have := trd_j2 (T := trd T p th nc) (p := p) (th := T (23 + 5 * p)) (nc := T (25 + 5 * p)) (by rw [e1]; exact ht) hp (by rw [e1]; exact fun z => hne z.symm)
    rw [this, trd_j1 hp hne]
    omega
  rw [trd_o (by rw [e1]; exact a2) a1 a3 a4, trd_o a1 a2 a3 a4]
theorem exc_o {T : Tn} {p q i : Nat} (h1 : i ≠ 23 + 5 * p) (h2 : i ≠ 23 + 5 * q) : exc T p q i = T i := by
  unfold exc
  rw [tup_n h2, tup_n h1]
theorem exc_q {T : Tn} {p q : Nat} : exc T p q (23 + 5 * q) = T (23 + 5 * p) := by
  unfold exc
  rw [tup_s]
theorem exc_p {T : Tn} {p q : Nat} (h : p ≠ q) : exc T p q (23 + 5 * p) = T (23 + 5 * q) := by
  unfold exc
  rw [tup_n (by omega), tup_s]
theorem exc_back {T : Tn} {p q : Nat} (h : p ≠ q) : exc (exc T p q) p q = T := by
  funext i
  by_cases a1 : i = 23 + 5 * p
  · subst a1
    rw [exc_p h, exc_q]
  by_cases a2 : i = 23 + 5 * q
  · subst a2
    rw [exc_q, exc_p h]
  rw [exc_o a1 a2, exc_o a1 a2]
section DOF
variable {T : Tn} {ab : Nat} {L : RLt}
theorem un_do (w : WF T) {c : Nat} (h : okC L T ab c = true) : unT (doT L T ab c) c (T (23 + 5 * (c / 10))) (cst L T ab c) = T := by
  obtain ⟨h1, h2⟩ := okC_in h
  obtain ⟨c60, cp, p6, cq⟩ := chg_in w h1
  obtain ⟨d1, d2, d3, d4, d5⟩ := can_in h2
  unfold unT doT cst
  by_cases q : c % 10 = 9
  · rw [if_pos q, if_pos q, if_pos q]
    obtain ⟨f1, f2, f3⟩ := d4 q
    have hne : T (23 + 5 * (c / 10)) ≠ T (24 + 5 * (c / 10)) := by simpa [isW] using d3
    have := trd_back (T := T) (p := c / 10) (th := T (24 + 5 * (c / 10))) (nc := T (25 + 5 * (c / 10)) - pr L T ab (c / 10)) (w.ha p6) (w.ne p6) hne f1
    rw [trd_c, show T (25 + 5 * (c / 10)) - pr L T ab (c / 10) + pr L T ab (c / 10) = T (25 + 5 * (c / 10)) by omega]
    exact this
  · rw [if_neg q, if_neg q]
    exact exc_back (by omega)
/-- a change leaves all but things, jars, coins -/
theorem do_o (w : WF T) {c : Nat} (h : okC L T ab c = true) {i : Nat} (hi : i < 14 ∨ 52 ≤ i ∨ (22 ≤ i ∧ i < 52 ∧ (i - 22) % 5 ≠ 1 ∧ (i - 22) % 5 ≠ 3)) : doT L T ab c i = T i := by
  obtain ⟨h1, h2⟩ := okC_in h
  obtain ⟨c60, cp, p6, cq⟩ := chg_in w h1
  have b1 := w.ha p6
  have b2 := w.ne p6
  unfold doT
  split
  · exact trd_o (by omega) (by omega) (by omega) (by omega)
  · exact exc_o (by omega) (by omega)
theorem do_WF (w : WF T) {c : Nat} (h : okC L T ab c = true) : WF (doT L T ab c) := by
  have keep : ∀ {i : Nat}, (i < 14 ∨ 52 ≤ i ∨ (22 ≤ i ∧ i < 52 ∧ (i - 22) % 5 ≠ 1 ∧ (i - 22) % 5 ≠ 3)) → doT L T ab c i = T i := fun hi => do_o w h hi
  obtain ⟨h1, h2⟩ := okC_in h
  obtain ⟨c60, cp, p6, cq⟩ := chg_in w h1
  obtain ⟨d1, d2, d3, d4, d5⟩ := can_in h2
  have b1 := w.ha p6
  have b2 := w.ne p6
  have hne : T (23 + 5 * (c / 10)) ≠ T (24 + 5 * (c / 10)) := by simpa [isW] using d3
  have hj : ∀ i, i < 8 → doT L T ab c (14 + i) ≤ 100 := by
    intro i hi
    have hw := w.ja hi
    unfold doT
    split
    · next q =>
      obtain ⟨f1, f2, f3⟩ := d4 q
      by_cases e1 : i = T (23 + 5 * (c / 10))
      · subst e1
        rw [trd_j1 b1 hne]
        omega
      · by_cases e2 : i = T (24 + 5 * (c / 10))
        · rw [e2] at hw ⊢
          rw [trd_j2 b1 b2 hne]
          omega
        · rw [trd_o (by omega) (by omega) (by omega) (by omega)]
          exact hw
    · rw [exc_o (by omega) (by omega)]
      exact hw
  have hh : ∀ p, p < 6 → doT L T ab c (23 + 5 * p) < 8 ∧ doT L T ab c (25 + 5 * p) ≤ 999 := by
    intro p hp
    have w1 := w.ha hp
    have w2 := w.co hp
    unfold doT
    split
    · next q =>
      by_cases e : p = c / 10
      · subst e
        rw [trd_h, trd_c]
        omega
      · rw [trd_o (by omega) (by omega) (by omega) (by omega), trd_o (by omega) (by omega) (by omega) (by omega)]
        omega
    · next q =>
      have q6 : c % 10 < 6 := by omega
      have w3 := w.ha q6
      have hd : c / 10 ≠ c % 10 := by omega
      constructor
      · by_cases e : p = c / 10
        · subst e
          rw [exc_p hd]
          exact w3
        · by_cases e2 : p = c % 10
          · subst e2
            rw [exc_q]
            exact b1
          · rw [exc_o (by omega) (by omega)]
            exact w1
      · rw [exc_o (by omega) (by omega)]
        exact w2
  obtain ⟨w1, w2, w3, w4, w5, w6, w7, w8, w9⟩ := w
  refine ⟨?_, ?_, ?_, ?_, fun i hi => ⟨?_, hj i hi⟩, fun p hp => ⟨?_, (hh p hp).1, ?_, (hh p hp).2, ?_⟩, fun p hp => ?_, fun r hr => ?_, fun k hk => ?_⟩
  · rw [keep (by omega)]; exact w1
  · rw [keep (by omega)]; exact w2
  · rw [keep (by omega)]; exact w3
  · rw [keep (by omega)]; exact w4
  · rw [keep (by omega)]; exact (w5 i hi).1
  · rw [keep (by omega)]; exact (w6 p hp).1
  · rw [keep (by omega)]; exact (w6 p hp).2.2.1
  · rw [keep (by omega)]; exact (w6 p hp).2.2.2.2
  · rw [keep (by omega)] at hp
    rw [keep (by omega)]; exact w7 p hp
  · rw [keep (by omega), keep (by omega), keep (by omega)]; exact w8 r hr
  · rw [keep (by omega), keep (by omega), keep (by omega)]; exact w9 k hk
theorem do_ER {E : EE} (w : WF T) (hE : ER E L T) {c : Nat} (h : okC L T ab c = true) : ER E L (doT L T ab c) := by
  refine ⟨hE.1, hE.2.1, fun p hp => ?_⟩
  have hn := w.n
  rw [do_o w h (by omega)] at hp
  rw [do_o w h (by omega)]
  exact hE.2.2 p hp
end DOF
section KRD
variable {g0 g : St} {T : Tn} {z : Int32} {ab : Nat} {E : EE} {L : RLt}
theorem KR.wrT (h : KR g0 g T z ab) (i v : Nat) {b n j : Nat} (hi : i < 106) (h1 : i ≠ 1) (h5 : i ≠ 5) (hm : km i = (b, j)) (hj : j < n) (hn : n < 2 ^ 31) : ∃ g', wr g b n (nI j) (nI v) = some g' ∧ KR g0 g' (tup T i v) z ab ∧ g' = up2 g b j (nI v) := ⟨_, wr_n hj hn, h.put i v hi h1 h5 hm, rfl⟩
theorem KR.to (h : KR g0 g T z ab) {T' : Tn} (e : T = T') : KR g0 g T' z ab := e ▸ h
theorem kw_trades (h : KR g0 g T z ab) {p th nc : Nat} {y : Int32} (hp : p < 6) (hh : T (23 + 5 * p) < 8) (ht : th < 8) (hj : 1 ≤ T (14 + th)) (hy : nI (T (25 + 5 * p)) - y = nI nc) : ∃ g', kF_X3_trades g (nI p) (nI th) y = some g' ∧ KR g0 g' (trd T p th nc) z ab ∧ ∀ b, b ≠ 46 → b ≠ 48 → b ≠ 51 → g' b = g b := by
  unfold kF_X3_trades
  rw [K_ha h hp, Option.bind_some, K_ja h hh, Option.bind_some, nI_1]
  obtain ⟨g1, e1, k1, q1⟩ := h.wrT (14 + T (23 + 5 * p)) (T (14 + T (23 + 5 * p)) + 1) (n := 8) (by omega) (by omega) (by omega) (km_ja _ hh) hh (by decide)
  rw [e1, Option.bind_some, K_ja k1 ht, Option.bind_some]
  have hge : 1 ≤ tup T (14 + T (23 + 5 * p)) (T (14 + T (23 + 5 * p)) + 1) (14 + th) := by
    by_cases e : 14 + th = 14 + T (23 + 5 * p)
    · rw [e, tup_s]
      omega
    · rw [tup_n e]
      exact hj
  rw [nI_m1 hge]
  obtain ⟨g2, e2, k2, q2⟩ := k1.wrT (14 + th) (tup T (14 + T (23 + 5 * p)) (T (14 + T (23 + 5 * p)) + 1) (14 + th) - 1) (n := 8) (by omega) (by omega) (by omega) (km_ja _ ht) ht (by decide)
  rw [e2, Option.bind_some]
  obtain ⟨g3, e3, k3, q3⟩ := k2.wrT (23 + 5 * p) th (n := 6) (by omega) (by omega) (by omega) (km_ha _ hp) hp (by decide)
  rw [e3, Option.bind_some, K_co k3 hp, Option.bind_some]
  rw [tup_n (by omega), tup_n (by omega), tup_n (by omega), hy]
  obtain ⟨g4, e4, k4, q4⟩ := k3.wrT (25 + 5 * p) nc (n := 6) (by omega) (by omega) (by omega) (km_co _ hp) hp (by decide)
  rw [e4, Option.bind_some]
  refine ⟨g4, rfl, k4, fun b n1 n2 n3 => ?_⟩
  subst q4; subst q3; subst q2; subst q1
  unfold up2
  rw [if_neg n2, if_neg n1, if_neg n3, if_neg n3]
theorem kw_exchange (h : KR g0 g T z ab) {p q : Nat} (hp : p < 6) (hq : q < 6) : ∃ g', kF_X3_exchange g (nI p) (nI q) = some g' ∧ KR g0 g' (exc T p q) z ab ∧ ∀ b, b ≠ 46 → g' b = g b := by
  unfold kF_X3_exchange
  rw [K_ha h hp, Option.bind_some, K_ha h hq, Option.bind_some]
  obtain ⟨g1, e1, k1, q1⟩ := h.wrT (23 + 5 * p) (T (23 + 5 * q)) (n := 6) (by omega) (by omega) (by omega) (km_ha _ hp) hp (by decide)
  rw [e1, Option.bind_some]
  obtain ⟨g2, e2, k2, q2⟩ := k1.wrT (23 + 5 * q) (T (23 + 5 * p)) (n := 6) (by omega) (by omega) (by omega) (km_ha _ hq) hq (by decide)
  rw [e2, Option.bind_some]
  refine ⟨g2, rfl, k2, fun b n1 => ?_⟩
  subst q2; subst q1
  unfold up2
  rw [if_neg n1, if_neg n1]
theorem kw_carry (h : KR g0 g T z ab) (w : WF T) (ha : ab ≤ 6) (hE : ER E L T) (hL : LOK L) {c : Nat} (hc : okC L T ab c = true) : ∃ g', kF_carry E g (nI c) = some (nI (cst L T ab c), g') ∧ KR g0 g' (doT L T ab c) z ab ∧ ∀ b, b ≠ 15 → b ≠ 46 → b ≠ 48 → b ≠ 51 → g' b = g b := by
  obtain ⟨h1, h2⟩ := okC_in hc
  obtain ⟨c60, cp, p6, cq⟩ := chg_in w h1
  obtain ⟨d1, d2, d3, d4, d5⟩ := can_in h2
  unfold kF_carry doT cst
  rw [dv10 (by omega), Option.bind_some, rm10 (by omega), Option.bind_some, show (9 : Int32) = nI 9 from rfl, ie (by omega) (by omega)]
  by_cases q : c % 10 = 9
  · rw [if_pos q, if_pos q, if_pos q]
    obtain ⟨f1, f2, f3⟩ := d4 q
    obtain ⟨g', r1, r2, r3⟩ := kw_price h w ha hE hL cp
    rw [r1, Option.bind_some]
    dsimp only [un2]
    rw [K_ne r2 p6, Option.bind_some]
    obtain ⟨g2, s1, s2, s3⟩ := kw_trades (y := nI (pr L T ab (c / 10))) r2 p6 (w.ha p6) (w.ne p6) f1 (pk_sub f3)
    rw [s1, Option.bind_some]
    exact ⟨g2, rfl, s2, fun b n1 n2 n3 n4 => (s3 b n2 n3 n4).trans (r3 b n1)⟩
  · rw [if_neg q, if_neg q, if_neg q]
    obtain ⟨g2, s1, s2, s3⟩ := kw_exchange h p6 (q := c % 10) (by omega)
    rw [s1, Option.bind_some]
    exact ⟨g2, rfl, s2, fun b n1 n2 n3 n4 => s3 b n2⟩
/-- taken back -/
theorem kw_back1 {g : St} (w : WF T) {c : Nat} (hc : okC L T ab c = true) (h : KR g0 g (doT L T ab c) z ab) : ∃ g', kF_carryBack g (nI c) (nI (T (23 + 5 * (c / 10)))) (nI (cst L T ab c)) = some g' ∧ KR g0 g' T z ab ∧ ∀ b, b ≠ 46 → b ≠ 48 → b ≠ 51 → g' b = g b := by
  obtain ⟨h1, h2⟩ := okC_in hc
  obtain ⟨c60, cp, p6, cq⟩ := chg_in w h1
  obtain ⟨d1, d2, d3, d4, d5⟩ := can_in h2
  have wd := do_WF w hc
  have hu := un_do w hc
  have hne : T (23 + 5 * (c / 10)) ≠ T (24 + 5 * (c / 10)) := by simpa [isW] using d3
  unfold kF_carryBack
  unfold unT at hu
  rw [dv10 (by omega), Option.bind_some, rm10 (by omega), Option.bind_some, show (9 : Int32) = nI 9 from rfl, ie (by omega) (by omega)]
  by_cases q : c % 10 = 9
  · rw [if_pos q]
    rw [if_pos q] at hu
    have hj : 1 ≤ doT L T ab c (14 + T (23 + 5 * (c / 10))) := by
      unfold doT
      rw [if_pos q, trd_j1 (w.ha p6) hne]
      omega
    obtain ⟨g2, s1, s2, s3⟩ := kw_trades (nc := doT L T ab c (25 + 5 * (c / 10)) + cst L T ab c) (y := -(nI (cst L T ab c))) h p6 (wd.ha p6) (w.ha p6) hj (sub_neg _ _)
    rw [s1, Option.bind_some]
    exact ⟨g2, rfl, s2.to hu, s3⟩
  · rw [if_neg q]
    rw [if_neg q] at hu
    obtain ⟨g2, s1, s2, s3⟩ := kw_exchange h p6 (q := c % 10) (by omega)
    rw [s1, Option.bind_some]
    exact ⟨g2, rfl, s2.to hu, fun b n1 _ _ => s3 b n1⟩
end KRD
