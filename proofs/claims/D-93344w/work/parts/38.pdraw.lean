/-! by lot -/
set_option maxRecDepth 100000
/-- N: those that can be, one behind the other; n of them -/
def LotOK (P : Nat → Bool) (N : Nat → Nat) (n : Nat) : Prop := n ≤ 60 ∧ N n = 60 ∧ (∀ k, k < n → N k < 60 ∧ P (N k) = true) ∧ N 0 = nx P 60 0 ∧ ∀ k, k < n → N (k + 1) = nx P (60 - (N k + 1)) (N k + 1)
def nC (P : Nat → Bool) : Nat → Nat
  | 0 => nx P 60 0
  | k + 1 => if nC P k < 60 then nx P (60 - (nC P k + 1)) (nC P k + 1) else 60
theorem nC_le (P : Nat → Bool) : ∀ k, nC P k ≤ 60
  | 0 => by
    have := (nx_lo P 60 0).2
    unfold nC
    omega
  | k + 1 => by
    unfold nC
    split
    · have := (nx_lo P (60 - (nC P k + 1)) (nC P k + 1)).2
      omega
    · exact Nat.le_refl _
theorem nC_ge (P : Nat → Bool) : ∀ k, k ≤ 60 → k ≤ nC P k
  | 0, _ => Nat.zero_le _
  | k + 1, h => by
    have ih := nC_ge P k (by omega)
    unfold nC
    split
    · have := (nx_lo P (60 - (nC P k + 1)) (nC P k + 1)).1
      omega
    · exact h
theorem nC_P (P : Nat → Bool) : ∀ k, nC P k < 60 → P (nC P k) = true
  | 0, h => nx_P P 60 0 (by unfold nC at h; omega)
  | k + 1, h => by
    unfold nC at h ⊢
    split at h
    · next q =>
      rw [if_pos q]
      exact nx_P P _ _ (by omega)
    · omega
theorem lot_ex (P : Nat → Bool) : ∃ N n, LotOK P N n := by
  cases q : fi (fun k => decide (60 ≤ nC P k)) 61 0 with
  | none =>
    have := fi_no q 60 (by omega) (by omega)
    have h2 := nC_ge P 60 (by omega)
    simp at this
    omega
  | some n =>
    have h1 := fi_in q
    have h2 := fi_lo q
    have h3 := nC_le P n
    have h4 : 60 ≤ nC P n := by
      have := h1.2.2
      simpa using this
    have h5 : ∀ k, k < n → nC P k < 60 := fun k hk => by
      have := h2 k (by omega) hk
      simpa using this
    refine ⟨nC P, n, by omega, by omega, fun k hk => ⟨h5 k hk, nC_P P k (h5 k hk)⟩, rfl, fun k hk => ?_⟩
    have := h5 k hk
    show (if nC P k < 60 then _ else _) = _
    rw [if_pos this]
theorem ush16 (x : Int32) : (x.toUInt32 >>> ((16 : Int32).toUInt32 &&& Int32.toUInt32 31)).toInt32 = nI (x.toBitVec.toNat / 65536) := by
  apply Int32.toBitVec_inj.mp
  apply BitVec.eq_of_toNat_eq
  rw [pk_ushr x 16 16 (by decide)]
  have : x.toBitVec.toNat < 2 ^ 32 := x.toBitVec.isLt
  rw [pk_tn (by omega)]
theorem sel_ex (x : Int32) {n : Nat} (h0 : 0 < n) (hn : n ≤ 60) : ∃ sel, sel < n ∧ rm (x.toUInt32 >>> ((16 : Int32).toUInt32 &&& Int32.toUInt32 31)).toInt32 (nI n) = some (nI sel) := by
  have : x.toBitVec.toNat < 2 ^ 32 := x.toBitVec.isLt
  rw [ush16]
  generalize x.toBitVec.toNat = m at this
  exact ⟨m / 65536 % n, Nat.mod_lt _ h0, rm_n rfl (by omega) h0 (by omega)⟩
section PDR
variable {g0 h0 : St} {z : Int32} {E : EE} {L : RLt} {U : Nat → Int32} {en : Nat → Nat} {T : Tn} {g h : St} {N : Nat → Nat} {n : Nat}
theorem kw_cans0 (k : KR g0 g T z 6) (w : WF T) (hE : ER E L T) (hL : LOK L) (hN : LotOK (okC L T 6) N n) : ∃ g', kF_cans E g (-1) = some (encN (N 0), g') ∧ KR g0 g' T z 6 := by
  obtain ⟨g1, a1, a2, -⟩ := kw_cans (x := -1) k w (by omega) hE hL m1_0 (by decide) (by decide) (by omega)
  rw [hN.2.2.2.1]
  exact ⟨g1, a1, a2⟩
theorem kw_cansc (k : KR g0 g T z 6) (w : WF T) (hE : ER E L T) (hL : LOK L) (hN : LotOK (okC L T 6) N n) {i : Nat} (hi : i < n) : ∃ g', kF_cans E g (nI (N i)) = some (encN (N (i + 1)), g') ∧ KR g0 g' T z 6 := by
  have h60 := (hN.2.2.1 i hi).1
  rw [hN.2.2.2.2 i hi]
  generalize N i = c at h60
  obtain ⟨g1, a1, a2, -⟩ := kw_cans (x := nI c) k w (by omega) hE hL (nI_1 _) (by
    have := nI_toInt (n := c) (by omega)
    have i3 : (-1 : Int32).toInt = -1 := by decide
    rw [Int32.le_iff_toInt_le]
    omega) (nI_ge (b := 60) h60 (by omega)) (by omega)
  exact ⟨g1, a1, a2⟩
theorem tw_nextC (k : TR h0 h T z U 6) (w : WF T) (hU : UR U L en) (hL : LOK L) (hN : LotOK (okC L T 6) N n) {i : Nat} (hi : i < n) : ∃ h', tF_nextChange h (nI (N i)) = some (encM (N (i + 1)), h') ∧ TR h0 h' T z U 6 := by
  have h60 := (hN.2.2.1 i hi).1
  rw [hN.2.2.2.2 i hi]
  generalize N i = c at h60
  obtain ⟨g1, a1, a2, -⟩ := tw_nextc k w (by omega) hU hL h60
  exact ⟨g1, a1, a2⟩
theorem encN_in {c : Nat} (h : c < 60) : encN c = nI c := if_pos h
theorem kw_many (k : KR g0 g T z 6) (w : WF T) (hE : ER E L T) (hL : LOK L) (hN : LotOK (okC L T 6) N n) : ∃ g', kF_manyCan E g = some (nI n, g') ∧ KR g0 g' T z 6 := by
  unfold kF_manyCan
  obtain ⟨g1, a1, a2⟩ := kw_cans0 k w hE hL hN
  rw [a1, Option.bind_some]
  dsimp only [un2]
  obtain ⟨t, e1, e2⟩ := iter_inv (body := un3 fun s2a s2b s2c =>
    if s2c < 0 then
      some (.inr (s2b, s2a))
    else
      (kF_cans E s2a s2c).bind (un2 fun y5a y5b =>
      some (.inl (y5b, (s2b + (1 : Int32)), y5a)))) (fun i s => ∃ g', s = (g', nI i, encN (N i)) ∧ KR g0 g' T z 6) (fun t => ∃ g', t = (nI n, g') ∧ KR g0 g' T z 6) n
    (by
      rintro i hi s ⟨g2, rfl, k2⟩
      have h60 := (hN.2.2.1 i hi).1
      obtain ⟨g3, b1, b2⟩ := kw_cansc k2 w hE hL hN hi
      dsimp only [un3]
      rw [encN_in h60, if_neg (nI_pos (by omega)), b1, Option.bind_some, nI_1]
      exact ⟨_, rfl, g3, rfl, b2⟩)
    (by
      rintro s ⟨g2, rfl, k2⟩
      refine ⟨_, ?_, g2, rfl, k2⟩
      dsimp only [un3]
      rw [hN.2.1, if_pos (by decide)]) n 0 (g1, 0, encN (N 0)) (by omega) ⟨g1, rfl, a2⟩
  obtain ⟨g', rfl, k'⟩ := e2
  exact ⟨g', e1, k'⟩
theorem kw_drawn (k : KR g0 g T z 6) (w : WF T) (hE : ER E L T) (hL : LOK L) (hN : LotOK (okC L T 6) N n) {z' : Int32} (hz : z * 1103515245 + 12345 = z') {sel : Nat} (hs : 0 < n → sel < n ∧ rm (z'.toUInt32 >>> ((16 : Int32).toUInt32 &&& Int32.toUInt32 31)).toInt32 (nI n) = some (nI sel)) : (n = 0 → ∃ g', kF_drawn E g = some ((-3 : Int32), g') ∧ KR g0 g' T z 6) ∧ (0 < n → ∃ g', kF_drawn E g = some (nI (N sel), g') ∧ KR g0 g' (entT (doT L T 6 (N sel)) (N sel) (T (23 + 5 * (N sel / 10))) (doT L T 6 (N sel) (23 + 5 * (N sel / 10)))) z' 6) := by
  have n60 := hN.1
  obtain ⟨g1, a1, a2⟩ := kw_many k w hE hL hN
  constructor
  · intro e0
    unfold kF_drawn
    rw [a1, Option.bind_some, e0]
    exact ⟨g1, rfl, a2⟩
  · intro hpos
    obtain ⟨hs1, hs2⟩ := hs hpos
    obtain ⟨hs60, hok⟩ := hN.2.2.1 sel hs1
    unfold kF_drawn
    rw [a1, Option.bind_some]
    dsimp only [un2]
    have p : ∀ (s : St) (v : Int32), pf s 40 4 v = some (up2 s 40 4 v) := fun _ _ => rfl
    rw [if_neg (nI_ne0 hpos (by omega)), a2.2.1, p, Option.bind_some, hz]
    have k2 := a2.putz z'
    obtain ⟨g3, b1, b2⟩ := kw_cans0 k2 w hE hL hN
    rw [b1, Option.bind_some]
    dsimp only [un2]
    rw [b2.2.1, hs2, Option.bind_some]
    obtain ⟨t, e1, e2⟩ := iter_inv (body := un3 fun s9a s9b s9c =>
        if s9c ≤ 0 then
          some (.inr (s9a, s9b))
        else
          (kF_cans E s9a s9b).bind (un2 fun y12a y12b =>
          some (.inl (y12b, y12a, (s9c + (-1 : Int32)))))) (fun i s => ∃ g', s = (g', encN (N i), nI (sel - i)) ∧ KR g0 g' T z' 6) (fun t => ∃ g', t = (g', nI (N sel)) ∧ KR g0 g' T z' 6) sel
      (by
        rintro i hi s ⟨g4, rfl, k4⟩
        have h60 := (hN.2.2.1 i (by omega)).1
        obtain ⟨g5, c1, c2⟩ := kw_cansc k4 w hE hL hN (i := i) (by omega)
        have ed : nI (sel - i) + (-1) = nI (sel - (i + 1)) := by
          rw [show sel - i = (sel - (i + 1)) + 1 by omega]
          exact pk_m1 _
        dsimp only [un3]
        rw [if_neg (show ¬ nI (sel - i) ≤ 0 from nI_nle (by omega) (by omega)), encN_in h60, c1, Option.bind_some, ed]
        exact ⟨_, rfl, g5, rfl, c2⟩)
      (by
        rintro s ⟨g4, rfl, k4⟩
        refine ⟨_, ?_, g4, rfl, k4⟩
        dsimp only [un3]
        rw [Nat.sub_self, if_pos (by decide), encN_in hs60]) sel 0 (g3, encN (N 0), nI sel) (by omega) ⟨g3, rfl, b2⟩
    obtain ⟨g4, rfl, k4⟩ := e2
    obtain ⟨g5, d1, d2⟩ := kw_makes k4 w (by omega) hE hL hok
    have hcst := cst_le (ab := 6) w hL (okC_in hok).1
    have e3 : (0 : Int32) ≤ nI (cst L T 6 (N sel)) := nI_pos' (by omega)
    rw [e1, Option.bind_some]
    dsimp only [un2]
    rw [d1, Option.bind_some]
    dsimp only [un2]
    rw [if_pos e3]
    exact ⟨g5, rfl, d2⟩
theorem tw_drawn (k : TR h0 h T z U 6) (w : WF T) (hU : UR U L en) (hL : LOK L) (hN : LotOK (okC L T 6) N n) {z' : Int32} (hz : z * 1103515245 + 12345 = z') {sel : Nat} (hs : 0 < n → sel < n ∧ rm (z'.toUInt32 >>> ((16 : Int32).toUInt32 &&& Int32.toUInt32 31)).toInt32 (nI n) = some (nI sel)) : (n = 0 → ∃ h', tF_drawn h = some ((-1 : Int32), h') ∧ TR h0 h' T z U 6) ∧ (0 < n → ∃ h', tF_drawn h = some (nI (N sel), h') ∧ TR h0 h' T z' U 6) := by
  have n60 := hN.1
  have first : ∀ (s : St) (y : Int32), TR h0 s T y U 6 → ∃ s', tF_nextChange s (-1) = some (encM (N 0), s') ∧ TR h0 s' T y U 6 := by
    intro s y ks
    obtain ⟨g1, a1, a2, -⟩ := tw_next0 ks w (by omega) hU hL
    rw [hN.2.2.2.1]
    exact ⟨g1, a1, a2⟩
  obtain ⟨g1, a1, a2⟩ := first h z k
  obtain ⟨t, e1, e2⟩ := iter_inv (body := un3 fun s16a s16b s16c =>
      if s16c < 0 then
        some (.inr (s16a, s16b))
      else
        (tF_nextChange s16a s16c).bind (un2 fun y19a y19b =>
        some (.inl (y19b, (s16b + (1 : Int32)), y19a)))) (fun i s => ∃ g', s = (g', nI i, encM (N i)) ∧ TR h0 g' T z U 6) (fun t => ∃ g', t = (g', nI n) ∧ TR h0 g' T z U 6) n
    (by
      rintro i hi s ⟨g2, rfl, k2⟩
      have h60 := (hN.2.2.1 i hi).1
      obtain ⟨g3, b1, b2⟩ := tw_nextC k2 w hU hL hN hi
      dsimp only [un3]
      rw [encM_in h60, if_neg (nI_pos (by omega)), b1, Option.bind_some, nI_1]
      exact ⟨_, rfl, g3, rfl, b2⟩)
    (by
      rintro s ⟨g2, rfl, k2⟩
      refine ⟨_, ?_, g2, rfl, k2⟩
      dsimp only [un3]
      rw [hN.2.1, if_pos (by decide)]) n 0 (g1, 0, encM (N 0)) (by omega) ⟨g1, rfl, a2⟩
  obtain ⟨g2, rfl, k2⟩ := e2
  unfold tF_drawn
  rw [a1, Option.bind_some]
  dsimp only [un2]
  constructor
  · intro e0
    refine ⟨g2, ?_, k2⟩
    refine Eq.trans (congrArg (fun x => Option.bind x _) e1) ?_
    rw [e0]
    rfl
  · intro hpos
    obtain ⟨hs1, hs2⟩ := hs hpos
    obtain ⟨hs60, hok⟩ := hN.2.2.1 sel hs1
    have k3 := k2.putz z'
    obtain ⟨g4, b1, b2⟩ := first _ _ k3
    obtain ⟨t, f1, f2⟩ := iter_inv (body := un3 fun s9a s9b s9c =>
        if s9b ≤ 0 then
          some (.inr (s9c, s9a))
        else
          (tF_nextChange s9a s9c).bind (un2 fun y12a y12b =>
          some (.inl (y12b, (s9b + (-1 : Int32)), y12a)))) (fun i s => ∃ g', s = (g', nI (sel - i), encM (N i)) ∧ TR h0 g' T z' U 6) (fun t => ∃ g', t = (nI (N sel), g') ∧ TR h0 g' T z' U 6) sel
      (by
        rintro i hi s ⟨g5, rfl, k5⟩
        have h60 := (hN.2.2.1 i (by omega)).1
        obtain ⟨g6, c1, c2⟩ := tw_nextC k5 w hU hL hN (i := i) (by omega)
        have ed : nI (sel - i) + (-1) = nI (sel - (i + 1)) := by
          rw [show sel - i = (sel - (i + 1)) + 1 by omega]
          exact pk_m1 _
        dsimp only [un3]
        rw [if_neg (show ¬ nI (sel - i) ≤ 0 from nI_nle (by omega) (by omega)), encM_in h60, c1, Option.bind_some, ed]
        exact ⟨_, rfl, g6, rfl, c2⟩)
      (by
        rintro s ⟨g5, rfl, k5⟩
        refine ⟨_, ?_, g5, rfl, k5⟩
        dsimp only [un3]
        rw [Nat.sub_self, if_pos (by decide), encM_in hs60]) sel 0 (g4, nI sel, encM (N 0)) (by omega) ⟨g4, rfl, b2⟩
    obtain ⟨g5, rfl, k5⟩ := f2
    refine ⟨g5, ?_, k5⟩
    refine Eq.trans (congrArg (fun x => Option.bind x _) e1) ?_
    rw [Option.bind_some]
    dsimp only [un2]
    rw [if_neg (nI_ne0 hpos (by omega)), rd_l (x := 5) 5 rfl (by omega) (by decide), Option.bind_some, k2.2.1, hz, wr_l (x := 5) 5 rfl (by omega) (by decide), Option.bind_some, rd_l (x := 5) 5 rfl (by omega) (by decide), Option.bind_some, k3.2.1, hs2, Option.bind_some, b1, Option.bind_some]
    exact f1
theorem pb_draw (j : JT E L U en g0 h0 T z g h) : Pb E L U en g0 h0 (kF_draw E g) (tF_draw h) := by
  have w := j.w
  obtain ⟨N, n, hN⟩ := lot_ex (okC L T 6)
  have n60 := hN.1
  obtain ⟨z', hz⟩ : ∃ z', z * 1103515245 + 12345 = z' := ⟨_, rfl⟩
  obtain ⟨sel, hs⟩ : ∃ sel, 0 < n → sel < n ∧ rm (z'.toUInt32 >>> ((16 : Int32).toUInt32 &&& Int32.toUInt32 31)).toInt32 (nI n) = some (nI sel) := by
    by_cases q : 0 < n
    · obtain ⟨sel, x⟩ := sel_ex z' q n60
      exact ⟨sel, fun _ => x⟩
    · exact ⟨0, fun x => absurd x q⟩
  obtain ⟨a0, a1⟩ := kw_drawn j.k w j.hE j.hL hN hz hs
  obtain ⟨b0, b1⟩ := tw_drawn j.t w j.hU j.hL hN hz hs
  have jz : JT E L U en g0 h0 T z' (up2 g 40 4 z') (up2 h 1 5 z') := ⟨j.1, j.2.1, j.hL, j.hE, j.hU, j.k.putz _, j.t.putz _⟩
  unfold kF_draw tF_draw
  by_cases q : n = 0
  · obtain ⟨g', c1, c2⟩ := a0 q
    obtain ⟨h', d1, d2⟩ := b0 q
    rw [c1, d1]
    exact Pb.to j rfl rfl c2 d2
  · have hp : 0 < n := by omega
    obtain ⟨g', c1, c2⟩ := a1 hp
    obtain ⟨h', d1, d2⟩ := b1 hp
    obtain ⟨hc, ho⟩ := hN.2.2.1 sel (hs hp).1
    obtain ⟨h2, f1, f2, -⟩ := tw_makes d2 w (by omega) j.hU j.hL ho
    have e0 : (0 : Int32) ≤ nI (N sel) := nI_pos' (by omega)
    rw [c1, d1, Option.bind_some, Option.bind_some]
    dsimp only [un2]
    rw [if_pos e0, f1, Option.bind_some]
    exact ⟨_, _, _, _, _, rfl, rfl, jz.make ho c2 f2⟩
end PDR
