/-! the calls, side by side: those on the town alone -/
set_option maxRecDepth 100000
/-- both sides hold the town T -/
def JT (E : EE) (L : RLt) (U : Nat → Int32) (en : Nat → Nat) (g0 h0 : St) (T : Tn) (z : Int32) (g h : St) : Prop := WF T ∧ (∀ i, i < 8 → T (14 + i) ≤ 99) ∧ LOK L ∧ ER E L T ∧ UR U L en ∧ KR g0 g T z 6 ∧ TR h0 h T z U 6
/-- both answer alike, and go on alike -/
def Pb (E : EE) (L : RLt) (U : Nat → Int32) (en : Nat → Nat) (g0 h0 : St) (rk rt : Option (Int32 × St)) : Prop := ∃ r g' h' T' z', rk = some (r, g') ∧ rt = some (r, h') ∧ JT E L U en g0 h0 T' z' g' h'
theorem isP_c (x : Int32) {n : Nat} (hn : n ≤ 6) : kF_isIn x 0 (nI n - 1) = 0 ∨ ∃ p, p < n ∧ x = nI p ∧ kF_isIn x 0 (nI n - 1) = 1 := by
  rcases pk_ix x (n := n) (by omega) with h | h | ⟨j, hj, rfl⟩
  · left
    unfold kF_isIn
    rw [if_pos h]
  · left
    unfold kF_isIn
    split
    · rfl
    · rw [if_pos]
      have e : (nI n - 1).toInt = (n : Int) - 1 := pk_sub_toInt (a := n) (b := 1) (by omega) (by omega)
      have e2 := nI_toInt (n := n) (by omega)
      rw [Int32.le_iff_toInt_le] at h
      rw [Int32.lt_iff_toInt_lt]
      omega
  · right
    refine ⟨j, hj, rfl, ?_⟩
    rw [isIn_n hn (by omega)]
    simp [hj, zI]
theorem isI_c (x : Int32) {m : Nat} {M : Int32} (hM : M = nI m) (hm : m < 2 ^ 30) : kF_isIn x 0 M = 0 ∨ ∃ j, j ≤ m ∧ x = nI j ∧ kF_isIn x 0 M = 1 := by
  subst hM
  rcases pk_ix x (n := m + 1) (by omega) with h | h | ⟨j, hj, rfl⟩
  · left
    unfold kF_isIn
    rw [if_pos h]
  · left
    unfold kF_isIn
    split
    · rfl
    · rw [if_pos]
      have e2 := nI_toInt (n := m) (by omega)
      have e3 := nI_toInt (n := m + 1) (by omega)
      rw [Int32.le_iff_toInt_le] at h
      rw [Int32.lt_iff_toInt_lt]
      omega
  · right
    refine ⟨j, by omega, rfl, ?_⟩
    unfold kF_isIn
    rw [if_neg (nI_pos (by omega)), if_neg (nI_nlt (by omega) (by omega))]
theorem isJ_c (x : Int32) {a m : Nat} {A M : Int32} (hA : A = nI a) (hM : M = nI m) (hm : m < 2 ^ 30) (ham : a ≤ m) : kF_isIn x A M = 0 ∨ ∃ j, a ≤ j ∧ j ≤ m ∧ x = nI j ∧ kF_isIn x A M = 1 := by
  subst hA
  rcases isI_c x hM hm with h | ⟨j, h1, h2, h3⟩
  · left
    unfold kF_isIn at h ⊢
    split
    · rfl
    · next q =>
      have e2 := nI_toInt (n := a) (by omega)
      have : ¬ x < 0 := by
        intro r
        apply q
        rw [Int32.lt_iff_toInt_lt] at r ⊢
        have : (0 : Int32).toInt = 0 := by decide
        omega
      rw [if_neg this] at h
      exact h
  · subst h2
    by_cases q : j < a
    · left
      unfold kF_isIn
      rw [if_pos (nI_lt q (by omega))]
    · right
      refine ⟨j, by omega, h1, rfl, ?_⟩
      subst hM
      unfold kF_isIn
      rw [if_neg (nI_nlt (by omega) (by omega)), if_neg (nI_nlt (by omega) (by omega))]
section PBS
variable {E : EE} {L : RLt} {U : Nat → Int32} {en : Nat → Nat} {g0 h0 : St} {T : Tn} {z : Int32} {g h : St}
theorem JT.w (j : JT E L U en g0 h0 T z g h) : WF T := j.1
theorem JT.j9 (j : JT E L U en g0 h0 T z g h) : ∀ i, i < 8 → T (14 + i) ≤ 99 := j.2.1
theorem JT.hL (j : JT E L U en g0 h0 T z g h) : LOK L := j.2.2.1
theorem JT.hE (j : JT E L U en g0 h0 T z g h) : ER E L T := j.2.2.2.1
theorem JT.hU (j : JT E L U en g0 h0 T z g h) : UR U L en := j.2.2.2.2.1
theorem JT.k (j : JT E L U en g0 h0 T z g h) : KR g0 g T z 6 := j.2.2.2.2.2.1
theorem JT.t (j : JT E L U en g0 h0 T z g h) : TR h0 h T z U 6 := j.2.2.2.2.2.2
/-- new states with the same town -/
theorem JT.new (j : JT E L U en g0 h0 T z g h) {g' h' : St} (k : KR g0 g' T z 6) (t : TR h0 h' T z U 6) : JT E L U en g0 h0 T z g' h' := ⟨j.1, j.2.1, j.2.2.1, j.2.2.2.1, j.2.2.2.2.1, k, t⟩
theorem Pb.same (j : JT E L U en g0 h0 T z g h) {rk rt : Option (Int32 × St)} {r : Int32} (h1 : rk = some (r, g)) (h2 : rt = some (r, h)) : Pb E L U en g0 h0 rk rt := ⟨r, g, h, T, z, h1, h2, j⟩
theorem Pb.to (j : JT E L U en g0 h0 T z g h) {rk rt : Option (Int32 × St)} {r : Int32} {g' h' : St} (h1 : rk = some (r, g')) (h2 : rt = some (r, h')) (k : KR g0 g' T z 6) (t : TR h0 h' T z U 6) : Pb E L U en g0 h0 rk rt := ⟨r, g', h', T, z, h1, h2, j.new k t⟩
theorem kw_isPersonX (k : KR g0 g T z 6) (x : Int32) : kF_isPerson g x = some (kF_isIn x 0 (nI (T 0) - 1)) := by
  unfold kF_isPerson
  rw [K_0 k]
theorem c10 : ¬ (1 : Int32) = 0 := by decide
theorem pb_personOf (j : JT E L U en g0 h0 T z g h) (a1 a2 : Int32) : Pb E L U en g0 h0 (kF_personOf E g a1 a2) (tF_personOf h a1 a2) := by
  have w := j.w
  have k := j.k
  have t := j.t
  unfold kF_personOf tF_personOf
  rw [kw_isPersonX k, tw_isPersonX t, Option.bind_some, Option.bind_some]
  rcases isP_c a1 w.n with q | ⟨p, hp, rfl, q⟩
  · rw [q, if_pos rfl, if_pos rfl]
    exact Pb.same j rfl rfl
  rw [q, if_neg c10, if_neg c10, show tF_in a2.toInt64 (0 : Int64) (6 : Int64) = kF_isIn a2 0 6 from tin a2 0 6]
  have p6 := w.p6 hp
  rcases isI_c a2 (m := 6) (M := 6) rfl (by omega) with q2 | ⟨c, hc, rfl, q2⟩
  · rw [q2, if_pos rfl]
    have ne : ∀ m : Nat, m ≤ 6 → a2 ≠ nI m := by
      intro m hm e
      subst e
      unfold kF_isIn at q2
      rw [if_neg (nI_pos (by omega)), show (6 : Int32) = nI 6 from rfl, if_neg (nI_nlt (b := m) (a := 6) (by omega) (by omega))] at q2
      exact absurd q2 (by decide)
    rw [if_neg (show ¬ a2 = (0 : Int32) from ne 0 (by omega)), if_neg (show ¬ a2 = (1 : Int32) from ne 1 (by omega)), if_neg (show ¬ a2 = (2 : Int32) from ne 2 (by omega)), if_neg (show ¬ a2 = (3 : Int32) from ne 3 (by omega)), if_neg (show ¬ a2 = (4 : Int32) from ne 4 (by omega)), if_neg (show ¬ a2 = (5 : Int32) from ne 5 (by omega)), if_neg (show ¬ a2 = (6 : Int32) from ne 6 (by omega))]
    exact Pb.same j rfl rfl
  rw [q2, if_neg c10]
  match c, hc with
  | 0, _ =>
    rw [if_pos (show nI 0 = (0 : Int32) from rfl), if_neg (show ¬ nI 0 = (4 : Int32) by decide), if_neg (show ¬ nI 0 = (5 : Int32) by decide), if_neg (show ¬ nI 0 = (6 : Int32) by decide), Option.bind_some, K_kd k p6, Option.bind_some, show tF_its h (nI p) (nI 0) = _ from T_kd t p6, Option.bind_some]
    exact Pb.same j rfl rfl
  | 1, _ =>
    rw [if_neg (show ¬ nI 1 = (0 : Int32) by decide), if_pos (show nI 1 = (1 : Int32) from rfl), if_neg (show ¬ nI 1 = (4 : Int32) by decide), if_neg (show ¬ nI 1 = (5 : Int32) by decide), if_neg (show ¬ nI 1 = (6 : Int32) by decide), Option.bind_some, K_ha k p6, Option.bind_some, show tF_its h (nI p) (nI 1) = _ from T_ha t p6, Option.bind_some]
    exact Pb.same j rfl rfl
  | 2, _ =>
    rw [if_neg (show ¬ nI 2 = (0 : Int32) by decide), if_neg (show ¬ nI 2 = (1 : Int32) by decide), if_pos (show nI 2 = (2 : Int32) from rfl), if_neg (show ¬ nI 2 = (4 : Int32) by decide), if_neg (show ¬ nI 2 = (5 : Int32) by decide), if_neg (show ¬ nI 2 = (6 : Int32) by decide), Option.bind_some, K_ne k p6, Option.bind_some, show tF_its h (nI p) (nI 2) = _ from T_ne t p6, Option.bind_some]
    exact Pb.same j rfl rfl
  | 3, _ =>
    rw [if_neg (show ¬ nI 3 = (0 : Int32) by decide), if_neg (show ¬ nI 3 = (1 : Int32) by decide), if_neg (show ¬ nI 3 = (2 : Int32) by decide), if_pos (show nI 3 = (3 : Int32) from rfl), if_neg (show ¬ nI 3 = (4 : Int32) by decide), if_neg (show ¬ nI 3 = (5 : Int32) by decide), if_neg (show ¬ nI 3 = (6 : Int32) by decide), Option.bind_some, K_co k p6, Option.bind_some, show tF_its h (nI p) (nI 3) = _ from T_co t p6, Option.bind_some]
    exact Pb.same j rfl rfl
  | 4, _ =>
    rw [if_neg (show ¬ nI 4 = (0 : Int32) by decide), if_neg (show ¬ nI 4 = (1 : Int32) by decide), if_neg (show ¬ nI 4 = (2 : Int32) by decide), if_neg (show ¬ nI 4 = (3 : Int32) by decide), if_pos (show nI 4 = (4 : Int32) from rfl), if_pos (show nI 4 = (4 : Int32) from rfl)]
    obtain ⟨g', r1, r2, -⟩ := kw_price k w (by omega) j.hE j.hL hp
    obtain ⟨h', s1, s2, -⟩ := tw_asked t w (by omega) j.hU j.hL hp
    rw [r1, s1]
    exact Pb.to j rfl rfl r2 s2
  | 5, _ =>
    rw [if_neg (show ¬ nI 5 = (0 : Int32) by decide), if_neg (show ¬ nI 5 = (1 : Int32) by decide), if_neg (show ¬ nI 5 = (2 : Int32) by decide), if_neg (show ¬ nI 5 = (3 : Int32) by decide), if_neg (show ¬ nI 5 = (4 : Int32) by decide), if_pos (show nI 5 = (5 : Int32) from rfl), if_neg (show ¬ nI 5 = (4 : Int32) by decide), if_pos (show nI 5 = (5 : Int32) from rfl), kw_isWhole k w p6, tw_isWhole t w p6, Option.bind_some, Option.bind_some, iz, iz]
    cases isW T p
    · exact Pb.same j rfl rfl
    · exact Pb.same j rfl rfl
  | 6, _ =>
    rw [if_neg (show ¬ nI 6 = (0 : Int32) by decide), if_neg (show ¬ nI 6 = (1 : Int32) by decide), if_neg (show ¬ nI 6 = (2 : Int32) by decide), if_neg (show ¬ nI 6 = (3 : Int32) by decide), if_neg (show ¬ nI 6 = (4 : Int32) by decide), if_neg (show ¬ nI 6 = (5 : Int32) by decide), if_pos (show nI 6 = (6 : Int32) from rfl), if_neg (show ¬ nI 6 = (4 : Int32) by decide), if_neg (show ¬ nI 6 = (5 : Int32) by decide), if_pos (show nI 6 = (6 : Int32) from rfl), Option.bind_some, K_me k p6, Option.bind_some, T_me t p6, Option.bind_some]
    exact Pb.same j rfl rfl
theorem WF.set {T : Tn} (w : WF T) {i v : Nat} (h : (i = 2 ∧ v ≤ 50) ∨ (6 ≤ i ∧ i < 14 ∧ v ≤ 99) ∨ (14 ≤ i ∧ i < 22 ∧ v ≤ 100) ∨ (22 ≤ i ∧ i < 52 ∧ (((i - 22) % 5 = 0 ∧ v ≤ 5 ∧ 1 ≤ v) ∨ (((i - 22) % 5 = 1 ∨ (i - 22) % 5 = 2) ∧ v < 8) ∨ ((i - 22) % 5 = 3 ∧ v ≤ 999) ∨ ((i - 22) % 5 = 4 ∧ v < 64))) ∨ (i = 3 ∧ v ≤ 6) ∨ (52 ≤ i ∧ i < 70 ∧ v ≤ 99) ∨ (52 ≤ i ∧ i < 70 ∧ (i - 52) % 3 = 2 ∧ v ≤ 999) ∨ (i = 4 ∧ v ≤ 12) ∨ (70 ≤ i ∧ v < 8 ∧ (i - 70) % 3 ≠ 0) ∨ (70 ≤ i ∧ v < 60 ∧ (v % 10 < 6 ∨ v % 10 = 9) ∧ (i - 70) % 3 = 0)) : WF (tup T i v) := by
  obtain ⟨w1, w2, w3, w4, w5, w6, w7, w8, w9⟩ := w
  have hi0 : i ≠ 0 := by omega
  refine ⟨?_, ?_, ?_, ?_, fun m hm => ⟨?_, ?_⟩, fun p hp => ⟨?_, ?_, ?_, ?_, ?_⟩, fun p hp => ?_, fun r hr => ⟨?_, ?_, ?_⟩, fun m hm => ⟨?_, ?_, ?_, ?_⟩⟩
  · rw [tup_n (fun q => hi0 q.symm)]; exact w1
  · unfold tup; split <;> omega
  · unfold tup; split <;> omega
  · unfold tup; split <;> omega
  · have := w5 m hm; unfold tup; split <;> omega
  · have := w5 m hm; unfold tup; split <;> omega
  · have := w6 p hp; unfold tup; split <;> omega
  · have := w6 p hp; unfold tup; split <;> omega
  · have := w6 p hp; unfold tup; split <;> omega
  · have := w6 p hp; unfold tup; split <;> omega
  · have := w6 p hp; unfold tup; split <;> omega
  · rw [tup_n (fun q => hi0 q.symm)] at hp
    have := w7 p hp
    unfold tup; split <;> omega
  · have := w8 r hr; unfold tup; split <;> omega
  · have := w8 r hr; unfold tup; split <;> omega
  · have := w8 r hr; unfold tup; split <;> omega
  · have := w9 m hm; unfold tup; split <;> omega
  · have := w9 m hm; unfold tup; split <;> omega
  · have := w9 m hm; unfold tup; split <;> omega
  · have := w9 m hm; unfold tup; split <;> omega
theorem ER.set {T : Tn} (hE : ER E L T) (w : WF T) {i v : Nat} (h0 : i ≠ 0) (h : ∀ p, p < 6 → i ≠ 22 + 5 * p) : ER E L (tup T i v) := by
  refine ⟨hE.1, hE.2.1, fun p hp => ?_⟩
  rw [tup_n (fun q => h0 q.symm)] at hp
  rw [tup_n (fun q => h p (w.p6 hp) q.symm)]
  exact hE.2.2 p hp
theorem JT.set (j : JT E L U en g0 h0 T z g h) {i v : Nat} {g' h' : St} (hw : WF (tup T i v)) (h0' : i ≠ 0) (hk : ∀ p, p < 6 → i ≠ 22 + 5 * p) (hj : 14 ≤ i → i < 22 → v ≤ 99) (k : KR g0 g' (tup T i v) z 6) (t : TR h0 h' (tup T i v) z U 6) : JT E L U en g0 h0 (tup T i v) z g' h' := by
  refine ⟨hw, fun m hm => ?_, j.hL, j.hE.set j.w h0' hk, j.hU, k, t⟩
  have := j.j9 m hm
  unfold tup
  split
  · exact hj (by omega) (by omega)
  · exact this
theorem tw_becomes (t : TR h0 h T z U 6) (i v : Nat) {x : Int32} (hx : x = nI i) (hi : i < 106) (h1 : i ≠ 1) (h5 : i ≠ 5) : ∃ h', tF_becomes h x (nI v) = some (nI (T i), h') ∧ TR h0 h' (tup T i v) z U 6 := by
  unfold tF_becomes
  obtain ⟨h', a1, a2, -⟩ := t.wrT i v hx hi h1 h5
  rw [t.rdT i hx hi h1 h5, Option.bind_some, a1, Option.bind_some]
  exact ⟨h', rfl, a2⟩
theorem pb_worth (j : JT E L U en g0 h0 T z g h) (a1 a2 : Int32) : Pb E L U en g0 h0 (kF_worth g a1 a2) (tF_worth h a1 a2) := by
  unfold kF_worth tF_worth kF_isThing tF_isThing
  rw [show tF_in a1.toInt64 (0 : Int64) (7 : Int64) = kF_isIn a1 0 7 from tin a1 0 7, show tF_in a2.toInt64 (0 : Int64) (99 : Int64) = kF_isIn a2 0 99 from tin a2 0 99]
  rcases isI_c a1 (m := 7) (M := 7) rfl (by omega) with q | ⟨i, hi, rfl, q⟩
  · rw [q, if_pos rfl, if_pos rfl]
    exact Pb.same j rfl rfl
  rw [q, if_neg c10, if_neg c10]
  rcases isI_c a2 (m := 99) (M := 99) rfl (by omega) with q | ⟨v, hv, rfl, q⟩
  · rw [q, if_pos rfl, if_pos rfl]
    exact Pb.same j rfl rfl
  rw [q, if_neg c10, if_neg c10, K_wo j.k (by omega), Option.bind_some]
  obtain ⟨g', a1, a2, -⟩ := j.k.wrT (6 + i) v (n := 8) (by omega) (by omega) (by omega) (km_wo i (by omega)) (by omega) (by decide)
  obtain ⟨h', b1, b2⟩ := tw_becomes j.t (6 + i) v (x := (6 : Int32) + nI i) (nI_add 6 i) (by omega) (by omega) (by omega)
  rw [a1, b1, Option.bind_some, Option.bind_some]
  exact ⟨_, _, _, _, _, rfl, rfl, j.set (j.w.set (by omega)) (by omega) (fun p hp => by omega) (fun q1 q2 => by omega) a2 b2⟩
theorem pb_jar (j : JT E L U en g0 h0 T z g h) (a1 a2 : Int32) : Pb E L U en g0 h0 (kF_jar g a1 a2) (tF_jar h a1 a2) := by
  unfold kF_jar tF_jar kF_isThing tF_isThing
  rw [show tF_in a1.toInt64 (0 : Int64) (7 : Int64) = kF_isIn a1 0 7 from tin a1 0 7, show tF_in a2.toInt64 (0 : Int64) (9 : Int64) = kF_isIn a2 0 9 from tin a2 0 9]
  rcases isI_c a1 (m := 7) (M := 7) rfl (by omega) with q | ⟨i, hi, rfl, q⟩
  · rw [q, if_pos rfl, if_pos rfl]
    exact Pb.same j rfl rfl
  rw [q, if_neg c10, if_neg c10]
  rcases isI_c a2 (m := 9) (M := 9) rfl (by omega) with q | ⟨v, hv, rfl, q⟩
  · rw [q, if_pos rfl, if_pos rfl]
    exact Pb.same j rfl rfl
  rw [q, if_neg c10, if_neg c10, K_ja j.k (by omega), Option.bind_some]
  obtain ⟨g', a1, a2, -⟩ := j.k.wrT (14 + i) v (n := 8) (by omega) (by omega) (by omega) (km_ja i (by omega)) (by omega) (by decide)
  obtain ⟨h', b1, b2⟩ := tw_becomes j.t (14 + i) v (add14 i) (by omega) (by omega) (by omega)
  rw [a1, b1, Option.bind_some, Option.bind_some]
  exact ⟨_, _, _, _, _, rfl, rfl, j.set (j.w.set (by omega)) (by omega) (fun p hp => by omega) (fun q1 q2 => by omega) a2 b2⟩
theorem pb_fee (j : JT E L U en g0 h0 T z g h) (a1 : Int32) : Pb E L U en g0 h0 (kF_fee g a1) (tF_fee h a1) := by
  unfold kF_fee tF_fee
  rw [show tF_in a1.toInt64 (0 : Int64) (50 : Int64) = kF_isIn a1 0 50 from tin a1 0 50]
  rcases isI_c a1 (m := 50) (M := 50) rfl (by omega) with q | ⟨v, hv, rfl, q⟩
  · rw [q, if_pos rfl, if_pos rfl]
    exact Pb.same j rfl rfl
  rw [q, if_neg c10, if_neg c10, K_fee j.k]
  have a2 := j.k.put 2 v (b := 40) (j := 1) (by omega) (by omega) (by omega) rfl
  obtain ⟨h', b1, b2⟩ := tw_becomes j.t 2 v (x := 2) rfl (by omega) (by omega) (by omega)
  rw [b1, Option.bind_some]
  exact ⟨_, _, _, _, _, rfl, rfl, j.set (j.w.set (by omega)) (by omega) (fun p hp => by omega) (fun q1 q2 => by omega) a2 b2⟩
theorem pb_seed (j : JT E L U en g0 h0 T z g h) (a1 : Int32) : Pb E L U en g0 h0 (kF_seed g a1) (tF_seed h a1) := by
  unfold kF_seed tF_seed
  rw [rd_l (x := 5) 5 rfl (by omega) (by decide), Option.bind_some, j.t.2.1, wr_l (x := 5) 5 rfl (by omega) (by decide), Option.bind_some, j.k.2.1]
  exact ⟨_, _, _, T, a1, rfl, rfl, j.1, j.2.1, j.hL, j.hE, j.hU, j.k.putz a1, j.t.putz a1⟩
theorem pb_forget (j : JT E L U en g0 h0 T z g h) : Pb E L U en g0 h0 (kF_forget g) (tF_forget h) := by
  unfold kF_forget tF_forget
  rw [K_rep j.k]
  have a2 := j.k.put 3 0 (b := 40) (j := 2) (by omega) (by omega) (by omega) rfl
  obtain ⟨h', b1, b2⟩ := tw_becomes j.t 3 0 (x := 3) rfl (by omega) (by omega) (by omega)
  rw [show (0 : Int32) = nI 0 from rfl, b1, Option.bind_some]
  exact ⟨_, _, _, _, _, rfl, rfl, j.set (j.w.set (by omega)) (by omega) (fun p hp => by omega) (fun q1 q2 => by omega) a2 b2⟩
theorem pb_cans (j : JT E L U en g0 h0 T z g h) (a1 : Int32) : Pb E L U en g0 h0 (kF_cans E g a1) (tF_cans h a1) := by
  have w := j.w
  have hn := w.n
  by_cases q1 : (-1 : Int32) ≤ a1
  · have fin : ∀ c (h' : St), c ≤ 60 → (if 0 ≤ encM (nx (okC L T 6) (60 - c) c) then some (encM (nx (okC L T 6) (60 - c) c), h') else some ((-3 : Int32), h')) = some (encN (nx (okC L T 6) (60 - c) c), h') := by
      intro c h' hc
      unfold encM encN
      by_cases q : nx (okC L T 6) (60 - c) c < 60
      · rw [if_pos q, if_pos (nI_pos' (by omega)), if_pos q]
      · rw [if_neg q, if_neg (by decide), if_neg q]
    by_cases e1 : a1 = -1
    · subst e1
      obtain ⟨g', r1, r2, -⟩ := kw_cans (x := -1) j.k w (by omega) j.hE j.hL m1_0 (by decide) (by decide) (by omega)
      obtain ⟨h', s1, s2, -⟩ := tw_next0 j.t w (by omega) j.hU j.hL
      unfold tF_cans
      rw [if_pos (by decide), s1, Option.bind_some]
      dsimp only [un2]
      rw [fin 0 h' (by omega)]
      exact Pb.to j r1 rfl r2 s2
    · have h0 : ¬ a1 < 0 := by
        intro r
        rw [Int32.lt_iff_toInt_lt] at r
        rw [Int32.le_iff_toInt_le] at q1
        have i1 : (-1 : Int32).toInt = -1 := by decide
        have i0 : (0 : Int32).toInt = 0 := by decide
        apply e1
        apply Int32.toInt_inj.mp
        omega
      rcases pk_ix a1 (n := 60) (by omega) with r | r | ⟨c, hc, rfl⟩
      · exact absurd r h0
      · have r' : (60 : Int32) ≤ a1 := r
        refine Pb.same j (r := -3) ?_ ?_
        · unfold kF_cans
          rw [if_pos q1, if_pos r', iter_done (t := (g, (99 : Int32))) rfl, Option.bind_some]
          rfl
        · unfold tF_cans tF_nextChange
          have e10 : (10 : Int32) * nI (T 0) = nI (10 * T 0) := pk_mul 10 (T 0)
          have r10 : nI (10 * T 0) ≤ a1 := by
            have i1 := nI_toInt (n := 10 * T 0) (by omega)
            have i2 : (60 : Int32).toInt = 60 := by decide
            rw [Int32.le_iff_toInt_le] at r' ⊢
            omega
          rw [if_pos q1, T_0 j.t, Option.bind_some, iter_done (t := ((-1 : Int32), h)) (by dsimp only [un2]; rw [e10, if_pos r10]), Option.bind_some]
          rfl
      · obtain ⟨g', r1, r2, -⟩ := kw_cans (x := nI c) j.k w (by omega) j.hE j.hL (nI_1 c) q1 (nI_ge (a := c) (b := 60) hc (by omega)) (by omega)
        obtain ⟨h', s1, s2, -⟩ := tw_nextc j.t w (by omega) j.hU j.hL hc
        unfold tF_cans
        rw [if_pos q1, s1, Option.bind_some]
        dsimp only [un2]
        rw [fin (c + 1) h' (by omega)]
        exact Pb.to j r1 rfl r2 s2
  · unfold kF_cans tF_cans
    rw [if_neg q1, if_neg q1]
    exact Pb.same j rfl rfl
theorem acc_few (m : Nat) : (goA L 6 m T [] 0 (0, 0, none, none)).2.2.1 = few L 6 m T := few_eq L 6 m T
theorem pb_fewest (j : JT E L U en g0 h0 T z g h) : Pb E L U en g0 h0 (kF_fewest E g) (tF_fewest h) := by
  obtain ⟨g', r1, r2, -⟩ := kw_few (m := 6) j.hL (by omega) j.w (Or.inr rfl) j.hE j.k
  obtain ⟨h', s1, s2, s3⟩ := tw_goesAll (m := 6) j.hU j.hL (by omega) j.w (Or.inr rfl) j.t
  unfold kF_fewest tF_fewest
  rw [show (6 : Int32) = nI 6 from rfl, r1, s1, Option.bind_some, Option.bind_some]
  have s4 := s3.2.2.2.1
  rw [acc_few] at s4
  cases q : few L 6 6 T with
  | none =>
    rw [q] at s4
    have s4 : h' 0 13 = -1 := s4
    rw [s4, if_neg (by decide)]
    exact Pb.to j rfl rfl r2 s2
  | some r =>
    rw [q] at s4
    rw [s4.1, if_pos (nI_pos' (by have := s4.2.1; omega))]
    exact Pb.to j rfl rfl r2 s2
theorem row_get {f : Nat → Int32} {r : List Nat} {i : Nat} (h : rowIs f r) (hi : i < r.length) : f i = nI (r.getD i 0) := by
  have e : r[i]? = some (r.getD i 0) := by
    rw [List.getD_eq_getElem?_getD, List.getElem?_eq_getElem hi]
    rfl
  exact h i _ e
theorem pb_ith (j : JT E L U en g0 h0 T z g h) (a1 : Int32) : Pb E L U en g0 h0 (kF_ith E g a1) (tF_ith h a1) := by
  unfold kF_ith tF_ith tF_isPlace
  rw [show tF_in a1.toInt64 (0 : Int64) (5 : Int64) = kF_isIn a1 0 5 from tin a1 0 5]
  rcases isI_c a1 (m := 5) (M := 5) rfl (by omega) with q | ⟨i, hi, rfl, q⟩
  · rw [q, if_pos rfl, if_pos rfl]
    exact Pb.same j rfl rfl
  rw [q, if_neg c10, if_neg c10]
  obtain ⟨g', r1, r2, r3⟩ := kw_few (m := 6) j.hL (by omega) j.w (Or.inr rfl) j.hE j.k
  obtain ⟨h', s1, s2, s3⟩ := tw_goesAll (m := 6) j.hU j.hL (by omega) j.w (Or.inr rfl) j.t
  rw [show (6 : Int32) = nI 6 from rfl, r1, s1, Option.bind_some, Option.bind_some]
  dsimp only [un2]
  have s4 := s3.2.2.2.1
  rw [acc_few] at s4
  cases q : few L 6 6 T with
  | none =>
    rw [q] at s4
    have s4 : h' 0 13 = -1 := s4
    have c1 : (-3 : Int32) ≤ nI i := by
      have := nI_toInt (n := i) (by omega)
      have i3 : (-3 : Int32).toInt = -3 := by decide
      rw [Int32.le_iff_toInt_le]
      omega
    have c2 : (-1 : Int32) ≤ nI i := by
      have := nI_toInt (n := i) (by omega)
      have i3 : (-1 : Int32).toInt = -1 := by decide
      rw [Int32.le_iff_toInt_le]
      omega
    rw [s4, if_pos c2]
    show Pb E L U en g0 h0 (if (-3 : Int32) ≤ nI i then _ else _) _
    rw [if_pos c1]
    exact Pb.to j rfl rfl r2 s2
  | some r =>
    rw [q] at s4
    obtain ⟨s5, s6, s7⟩ := s4
    have r4 := r3 r q
    rw [s5]
    show Pb E L U en g0 h0 (if nI r.length ≤ nI i then _ else _) _
    rw [il (by omega) (by omega), il (by omega) (by omega)]
    by_cases hl : r.length ≤ i
    · rw [if_pos hl, if_pos hl]
      exact Pb.to j rfl rfl r2 s2
    · rw [if_neg hl, if_neg hl, rd_n (by omega) (by decide), rd_n (by omega) (by decide), row_get r4 (by omega), row_get s7 (by omega)]
      exact Pb.to j rfl rfl r2 s2
theorem pb_find (j : JT E L U en g0 h0 T z g h) (a1 : Int32) (fk ft : St → Option (Int32 × St)) (hf : ∀ g' h' m, m ≤ 6 → accK g' (goA L 6 m T [] 0 (0, 0, none, none)) → accT h' (goA L 6 m T [] 0 (0, 0, none, none)) → ∃ r, fk g' = some (r, g') ∧ ft h' = some (r, h')) : Pb E L U en g0 h0 (if (kF_isIn a1 (0 : Int32) (6 : Int32)) = 0 then some ((-1 : Int32), g) else (kF_findRows E g a1).bind fk) (if (tF_isLong a1) = 0 then some ((-1 : Int32), h) else (tF_goesAll h a1).bind ft) := by
  unfold tF_isLong
  rw [show tF_in a1.toInt64 (0 : Int64) (6 : Int64) = kF_isIn a1 0 6 from tin a1 0 6]
  rcases isI_c a1 (m := 6) (M := 6) rfl (by omega) with q | ⟨m, hm, rfl, q⟩
  · rw [q, if_pos rfl, if_pos rfl]
    exact Pb.same j rfl rfl
  rw [q, if_neg c10, if_neg c10]
  obtain ⟨g', r1, r2, r3⟩ := kw_findRows j.hL hm j.w j.hE j.k
  obtain ⟨h', s1, s2, s3⟩ := tw_goesAll j.hU j.hL hm j.w (Or.inr rfl) j.t
  rw [r1, s1, Option.bind_some, Option.bind_some]
  obtain ⟨r, e1, e2⟩ := hf g' h' m hm r3 s3
  exact Pb.to j e1 e2 r2 s2
theorem pb_ways (j : JT E L U en g0 h0 T z g h) (a1 : Int32) : Pb E L U en g0 h0 (kF_ways E g a1) (tF_ways h a1) := pb_find j a1 _ _ (fun g' h' m _ r s => ⟨_, by rw [r.1], by rw [s.1]⟩)
theorem pb_most (j : JT E L U en g0 h0 T z g h) (a1 : Int32) : Pb E L U en g0 h0 (kF_most E g a1) (tF_most h a1) := pb_find j a1 _ _ (fun g' h' m _ r s => ⟨_, by rw [r.2.1], by rw [s.2.1]⟩)
theorem pb_cheapest (j : JT E L U en g0 h0 T z g h) (a1 : Int32) : Pb E L U en g0 h0 (kF_cheapest E g a1) (tF_cheapest h a1) := pb_find j a1 _ _ (fun g' h' m _ r s => by
  have r4 := r.2.2.2
  have s4 := s.2.2.2.2
  cases q : (goA L 6 m T [] 0 (0, 0, none, none)).2.2.2 with
  | none =>
    rw [q] at r4 s4
    have s4 : h' 0 14 = -1 := s4
    rw [r4.1, s4]
    exact ⟨-3, rfl, rfl⟩
  | some x =>
    rw [q] at r4 s4
    have b := r4.2.1
    rw [r4.1, s4.1, if_pos (nI_pos' (by omega)), if_pos (nI_pos' (by omega))]
    exact ⟨_, rfl, rfl⟩)
theorem pb_cheaply (j : JT E L U en g0 h0 T z g h) (a1 a2 : Int32) : Pb E L U en g0 h0 (kF_cheaply E g a1 a2) (tF_cheaply h a1 a2) := by
  unfold kF_cheaply tF_cheaply tF_isPlace
  rw [show tF_in a2.toInt64 (0 : Int64) (5 : Int64) = kF_isIn a2 0 5 from tin a2 0 5]
  rcases isI_c a2 (m := 5) (M := 5) rfl (by omega) with q | ⟨i, hi, rfl, q⟩
  · rw [q, if_pos rfl, if_pos rfl]
    refine Pb.same (r := -1) j ?_ ?_ <;> (split <;> rfl)
  rw [q, if_neg c10, if_neg c10]
  refine pb_find j a1 _ _ (fun g' h' m _ r s => ?_)
  have r4 := r.2.2.2
  have s4 := s.2.2.2.2
  cases q : (goA L 6 m T [] 0 (0, 0, none, none)).2.2.2 with
  | none =>
    rw [q] at r4 s4
    have s4 : h' 0 14 = -1 := s4
    rw [r4.2, s4, if_pos (show (0 : Int32) ≤ nI i from nI_pos' (by omega)), if_pos (show (-1 : Int32) < 0 by decide)]
    exact ⟨_, rfl, rfl⟩
  | some x =>
    rw [q] at r4 s4
    obtain ⟨b1, b2, b3, b4, b5⟩ := r4
    obtain ⟨c1, c2, c3, c4, c5⟩ := s4
    rw [b3, c1, c3, if_neg (nI_pos (by omega)), il (by omega) (by omega), il (by omega) (by omega)]
    by_cases hl : x.2.length ≤ i
    · rw [if_pos hl, if_pos hl]
      exact ⟨_, rfl, rfl⟩
    · rw [if_neg hl, if_neg hl, rd_n (by omega) (by decide), rd_n (by omega) (by decide), row_get b5 (by omega), row_get c5 (by omega)]
      exact ⟨_, rfl, rfl⟩
end PBS
