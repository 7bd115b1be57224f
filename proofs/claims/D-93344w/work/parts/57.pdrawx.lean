/-! often: runs by lot -/
set_option maxRecDepth 100000
theorem fr_wr {g g' : St} {a n : Nat} {i v : Int32} (h : wr g a n i v = some g') (ha : a < 80) {b : Nat} (hb : 80 ≤ b) : g' b = g b := by
  obtain ⟨-, rfl⟩ := wr_in h
  exact up2_o (by omega)
theorem fr_pf {g g' : St} {a k : Nat} {v : Int32} (h : pf g a k v = some g') (ha : a < 80) {b : Nat} (hb : 80 ≤ b) : g' b = g b := by
  cases h
  exact up2_o (by omega)
theorem fr_cpy {g g' : St} {sa sn da dn : Nat} {sp dp n : Int32} (h : cpy g sa sn da dn sp dp n = some g') (ha : da < 80) {b : Nat} (hb : 80 ≤ b) : g' b = g b := by
  obtain ⟨-, rfl⟩ := cpy_in h
  exact upA_n (by omega)
theorem enters_fr {g g' : St} {a1 a2 a3 : Int32} (h : kF_X3_enters g a1 a2 a3 = some g') {b : Nat} (hb : 80 ≤ b) : g' b = g b := by
  unfold kF_X3_enters at h
  obtain ⟨j1, h1, h⟩ := bnd h
  have f1 : j1 b = g b := by
    split at h1
    · obtain ⟨g7, e7, h1⟩ := bnd h1
      obtain ⟨g8, e8, h1⟩ := bnd h1
      obtain ⟨g9, e9, h1⟩ := bnd h1
      obtain ⟨g10, e10, h1⟩ := bnd h1
      cases h1
      rw [fr_pf e10 (by decide) hb, fr_cpy e9 (by decide) hb, fr_cpy e8 (by decide) hb, fr_cpy e7 (by decide) hb]
    · cases h1
      rfl
  obtain ⟨g3, e3, h⟩ := bnd h
  obtain ⟨g4, e4, h⟩ := bnd h
  obtain ⟨g5, e5, h⟩ := bnd h
  obtain ⟨g6, e6, h⟩ := bnd h
  cases h
  rw [fr_pf e6 (by decide) hb, fr_wr e5 (by decide) hb, fr_wr e4 (by decide) hb, fr_wr e3 (by decide) hb, f1]
/-- .. and tried stays -/
def KX (g0 gb g : St) (T : Tn) (z : Int32) : Prop := KR g0 g T z 6 ∧ ∀ b, 80 ≤ b → g b = gb b
/-- .. and what was put aside stays -/
def TX (h0 : St) (hb : Nat → Int32) (U : Nat → Int32) (h : St) (T : Tn) (z : Int32) : Prop := TR h0 h T z U 6 ∧ h 3 = hb
section PDX
variable {g0 h0 gb : St} {hb : Nat → Int32} {z : Int32} {E : EE} {L : RLt} {U : Nat → Int32} {en : Nat → Nat} {T : Tn} {g h : St} {N : Nat → Nat} {n : Nat} {ab : Nat}
theorem kw_makesX (k : KR g0 g T z ab) (w : WF T) (ha : ab ≤ 6) (hE : ER E L T) (hL : LOK L) {c : Nat} (hc : okC L T ab c = true) : ∃ g', kF_makes E g (nI c) = some (nI (cst L T ab c), g') ∧ KR g0 g' (entT (doT L T ab c) c (T (23 + 5 * (c / 10))) (doT L T ab c (23 + 5 * (c / 10)))) z ab ∧ ∀ b, 80 ≤ b → g' b = g b := by
  obtain ⟨g', e, k'⟩ := kw_makes k w ha hE hL hc
  obtain ⟨g1, a1, -, a3⟩ := kw_carry k w ha hE hL hc
  refine ⟨g', e, k', fun b hb => ?_⟩
  unfold kF_makes at e
  obtain ⟨x1, -, e⟩ := bnd e
  obtain ⟨x2, -, e⟩ := bnd e
  rw [a1, Option.bind_some] at e
  dsimp only [un2] at e
  obtain ⟨x4, -, e⟩ := bnd e
  obtain ⟨g5, h5, e⟩ := bnd e
  have e6 : g5 = g' := (Prod.mk.inj (Option.some.inj e)).2
  rw [← e6, enters_fr h5 hb]
  exact a3 b (by omega) (by omega) (by omega) (by omega)
theorem kw_cans0X (k : KX g0 gb g T z) (w : WF T) (hE : ER E L T) (hL : LOK L) (hN : LotOK (okC L T 6) N n) : ∃ g', kF_cans E g (-1) = some (encN (N 0), g') ∧ KX g0 gb g' T z := by
  obtain ⟨g1, a1, a2, a3⟩ := kw_cans (x := -1) k.1 w (by omega) hE hL m1_0 (by decide) (by decide) (by omega)
  rw [hN.2.2.2.1]
  exact ⟨g1, a1, a2, fun b hb => (a3 b (by omega)).trans (k.2 b hb)⟩
theorem kw_canscX (k : KX g0 gb g T z) (w : WF T) (hE : ER E L T) (hL : LOK L) (hN : LotOK (okC L T 6) N n) {i : Nat} (hi : i < n) : ∃ g', kF_cans E g (nI (N i)) = some (encN (N (i + 1)), g') ∧ KX g0 gb g' T z := by
  have h60 := (hN.2.2.1 i hi).1
  rw [hN.2.2.2.2 i hi]
  generalize N i = c at h60
  obtain ⟨g1, a1, a2, a3⟩ := kw_cans (x := nI c) k.1 w (by omega) hE hL (nI_1 _) (by
    have := nI_toInt (n := c) (by omega)
    have i3 : (-1 : Int32).toInt = -1 := by decide
    rw [Int32.le_iff_toInt_le]
    omega) (nI_ge (b := 60) h60 (by omega)) (by omega)
  exact ⟨g1, a1, a2, fun b hb => (a3 b (by omega)).trans (k.2 b hb)⟩
theorem tw_nextCX (k : TX h0 hb U h T z) (w : WF T) (hU : UR U L en) (hL : LOK L) (hN : LotOK (okC L T 6) N n) {i : Nat} (hi : i < n) : ∃ h', tF_nextChange h (nI (N i)) = some (encM (N (i + 1)), h') ∧ TX h0 hb U h' T z := by
  have h60 := (hN.2.2.1 i hi).1
  rw [hN.2.2.2.2 i hi]
  generalize N i = c at h60
  obtain ⟨g1, a1, a2, a3⟩ := tw_nextc k.1 w (by omega) hU hL h60
  exact ⟨g1, a1, a2, (a3 3 (by decide)).trans k.2⟩
theorem kw_manyX (k : KX g0 gb g T z) (w : WF T) (hE : ER E L T) (hL : LOK L) (hN : LotOK (okC L T 6) N n) : ∃ g', kF_manyCan E g = some (nI n, g') ∧ KX g0 gb g' T z := by
  unfold kF_manyCan
  obtain ⟨g1, a1, a2⟩ := kw_cans0X k w hE hL hN
  rw [a1, Option.bind_some]
  dsimp only [un2]
  obtain ⟨t, e1, e2⟩ := iter_inv (body := un3 fun s2a s2b s2c =>
    if s2c < 0 then
      some (.inr (s2b, s2a))
    else
      (kF_cans E s2a s2c).bind (un2 fun y5a y5b =>
      some (.inl (y5b, (s2b + (1 : Int32)), y5a)))) (fun i s => ∃ g', s = (g', nI i, encN (N i)) ∧ KX g0 gb g' T z) (fun t => ∃ g', t = (nI n, g') ∧ KX g0 gb g' T z) n
    (by
      rintro i hi s ⟨g2, rfl, k2⟩
      have h60 := (hN.2.2.1 i hi).1
      obtain ⟨g3, b1, b2⟩ := kw_canscX k2 w hE hL hN hi
      dsimp only [un3]
      rw [encN_in h60, if_neg (nI_pos (by omega)), b1, Option.bind_some, nI_1]
      exact ⟨_, rfl, g3, rfl, b2⟩)
    (by
      rintro s ⟨g2, rfl, k2⟩
      refine ⟨_, ?_, g2, rfl, k2⟩
      dsimp only [un3]
      rw [hN.2.1, if_pos (by decide)]) n 0 (g1, 0, encN (N 0)) (by omega) ⟨g1, rfl, a2⟩
  obtain ⟨g', rfl, k'⟩ := e2
  exact ⟨g', e1, k'⟩
theorem kw_drawnX (k : KX g0 gb g T z) (w : WF T) (hE : ER E L T) (hL : LOK L) (hN : LotOK (okC L T 6) N n) {z' : Int32} (hz : z * 1103515245 + 12345 = z') {sel : Nat} (hs : 0 < n → sel < n ∧ rm (z'.toUInt32 >>> ((16 : Int32).toUInt32 &&& Int32.toUInt32 31)).toInt32 (nI n) = some (nI sel)) : (n = 0 → ∃ g', kF_drawn E g = some ((-3 : Int32), g') ∧ KX g0 gb g' T z) ∧ (0 < n → ∃ g', kF_drawn E g = some (nI (N sel), g') ∧ KX g0 gb g' (entT (doT L T 6 (N sel)) (N sel) (T (23 + 5 * (N sel / 10))) (doT L T 6 (N sel) (23 + 5 * (N sel / 10)))) z') := by
  have n60 := hN.1
  obtain ⟨g1, a1, a2⟩ := kw_manyX k w hE hL hN
  constructor
  · intro e0
    unfold kF_drawn
    rw [a1, Option.bind_some, e0]
    exact ⟨g1, rfl, a2⟩
  · intro hpos
    obtain ⟨hs1, hs2⟩ := hs hpos
    obtain ⟨hs60, hok⟩ := hN.2.2.1 sel hs1
    unfold kF_drawn
    rw [a1, Option.bind_some]
    dsimp only [un2]
    have p : ∀ (s : St) (v : Int32), pf s 40 4 v = some (up2 s 40 4 v) := fun _ _ => rfl
    rw [if_neg (nI_ne0 hpos (by omega)), a2.1.2.1, p, Option.bind_some, hz]
    have k2 : KX g0 gb (up2 g1 40 4 z') T z' := ⟨a2.1.putz z', fun b hb => by rw [up2_o (by omega)]; exact a2.2 b hb⟩
    obtain ⟨g3, b1, b2⟩ := kw_cans0X k2 w hE hL hN
    rw [b1, Option.bind_some]
    dsimp only [un2]
    rw [b2.1.2.1, hs2, Option.bind_some]
    obtain ⟨t, e1, e2⟩ := iter_inv (body := un3 fun s9a s9b s9c =>
        if s9c ≤ 0 then
          some (.inr (s9a, s9b))
        else
          (kF_cans E s9a s9b).bind (un2 fun y12a y12b =>
          some (.inl (y12b, y12a, (s9c + (-1 : Int32)))))) (fun i s => ∃ g', s = (g', encN (N i), nI (sel - i)) ∧ KX g0 gb g' T z') (fun t => ∃ g', t = (g', nI (N sel)) ∧ KX g0 gb g' T z') sel
      (by
        rintro i hi s ⟨g4, rfl, k4⟩
        have h60 := (hN.2.2.1 i (by omega)).1
        obtain ⟨g5, c1, c2⟩ := kw_canscX k4 w hE hL hN (i := i) (by omega)
        have ed : nI (sel - i) + (-1) = nI (sel - (i + 1)) := by
          rw [show sel - i = (sel - (i + 1)) + 1 by omega]
          exact pk_m1 _
        dsimp only [un3]
        rw [if_neg (show ¬ nI (sel - i) ≤ 0 from nI_nle (by omega) (by omega)), encN_in h60, c1, Option.bind_some, ed]
        exact ⟨_, rfl, g5, rfl, c2⟩)
      (by
        rintro s ⟨g4, rfl, k4⟩
        refine ⟨_, ?_, g4, rfl, k4⟩
        dsimp only [un3]
        rw [Nat.sub_self, if_pos (by decide), encN_in hs60]) sel 0 (g3, encN (N 0), nI sel) (by omega) ⟨g3, rfl, b2⟩
    obtain ⟨g4, rfl, k4⟩ := e2
    obtain ⟨g5, d1, d2, d3⟩ := kw_makesX k4.1 w (by omega) hE hL hok
    have hcst := cst_le (ab := 6) w hL (okC_in hok).1
    have e3 : (0 : Int32) ≤ nI (cst L T 6 (N sel)) := nI_pos' (by omega)
    rw [e1, Option.bind_some]
    dsimp only [un2]
    rw [d1, Option.bind_some]
    dsimp only [un2]
    rw [if_pos e3]
    exact ⟨g5, rfl, d2, fun b hb => (d3 b hb).trans (k4.2 b hb)⟩
theorem tw_drawnX (k : TX h0 hb U h T z) (w : WF T) (hU : UR U L en) (hL : LOK L) (hN : LotOK (okC L T 6) N n) {z' : Int32} (hz : z * 1103515245 + 12345 = z') {sel : Nat} (hs : 0 < n → sel < n ∧ rm (z'.toUInt32 >>> ((16 : Int32).toUInt32 &&& Int32.toUInt32 31)).toInt32 (nI n) = some (nI sel)) : (n = 0 → ∃ h', tF_drawn h = some ((-1 : Int32), h') ∧ TX h0 hb U h' T z) ∧ (0 < n → ∃ h', tF_drawn h = some (nI (N sel), h') ∧ TX h0 hb U h' T z') := by
  have n60 := hN.1
  have first : ∀ (s : St) (y : Int32), TX h0 hb U s T y → ∃ s', tF_nextChange s (-1) = some (encM (N 0), s') ∧ TX h0 hb U s' T y := by
    intro s y ks
    obtain ⟨g1, a1, a2, a3⟩ := tw_next0 ks.1 w (by omega) hU hL
    rw [hN.2.2.2.1]
    exact ⟨g1, a1, a2, (a3 3 (by decide)).trans ks.2⟩
  obtain ⟨g1, a1, a2⟩ := first h z k
  obtain ⟨t, e1, e2⟩ := iter_inv (body := un3 fun s16a s16b s16c =>
      if s16c < 0 then
        some (.inr (s16a, s16b))
      else
        (tF_nextChange s16a s16c).bind (un2 fun y19a y19b =>
        some (.inl (y19b, (s16b + (1 : Int32)), y19a)))) (fun i s => ∃ g', s = (g', nI i, encM (N i)) ∧ TX h0 hb U g' T z) (fun t => ∃ g', t = (g', nI n) ∧ TX h0 hb U g' T z) n
    (by
      rintro i hi s ⟨g2, rfl, k2⟩
      have h60 := (hN.2.2.1 i hi).1
      obtain ⟨g3, b1, b2⟩ := tw_nextCX k2 w hU hL hN hi
      dsimp only [un3]
      rw [encM_in h60, if_neg (nI_pos (by omega)), b1, Option.bind_some, nI_1]
      exact ⟨_, rfl, g3, rfl, b2⟩)
    (by
      rintro s ⟨g2, rfl, k2⟩
      refine ⟨_, ?_, g2, rfl, k2⟩
      dsimp only [un3]
      rw [hN.2.1, if_pos (by decide)]) n 0 (g1, 0, encM (N 0)) (by omega) ⟨g1, rfl, a2⟩
  obtain ⟨g2, rfl, k2⟩ := e2
  unfold tF_drawn
  rw [a1, Option.bind_some]
  dsimp only [un2]
  constructor
  · intro e0
    refine ⟨g2, ?_, k2⟩
    refine Eq.trans (congrArg (fun x => Option.bind x _) e1) ?_
    rw [e0]
    rfl
  · intro hpos
    obtain ⟨hs1, hs2⟩ := hs hpos
    obtain ⟨hs60, hok⟩ := hN.2.2.1 sel hs1
    have k3 : TX h0 hb U (up2 g2 1 5 z') T z' := ⟨k2.1.putz z', by rw [up2_o (by decide)]; exact k2.2⟩
    obtain ⟨g4, b1, b2⟩ := first _ _ k3
    obtain ⟨t, f1, f2⟩ := iter_inv (body := un3 fun s9a s9b s9c =>
        if s9b ≤ 0 then
          some (.inr (s9c, s9a))
        else
          (tF_nextChange s9a s9c).bind (un2 fun y12a y12b =>
          some (.inl (y12b, (s9b + (-1 : Int32)), y12a)))) (fun i s => ∃ g', s = (g', nI (sel - i), encM (N i)) ∧ TX h0 hb U g' T z') (fun t => ∃ g', t = (nI (N sel), g') ∧ TX h0 hb U g' T z') sel
      (by
        rintro i hi s ⟨g5, rfl, k5⟩
        have h60 := (hN.2.2.1 i (by omega)).1
        obtain ⟨g6, c1, c2⟩ := tw_nextCX k5 w hU hL hN (i := i) (by omega)
        have ed : nI (sel - i) + (-1) = nI (sel - (i + 1)) := by
          rw [show sel - i = (sel - (i + 1)) + 1 by omega]
          exact pk_m1 _
        dsimp only [un3]
        rw [if_neg (show ¬ nI (sel - i) ≤ 0 from nI_nle (by omega) (by omega)), encM_in h60, c1, Option.bind_some, ed]
        exact ⟨_, rfl, g6, rfl, c2⟩)
      (by
        rintro s ⟨g5, rfl, k5⟩
        refine ⟨_, ?_, g5, rfl, k5⟩
        dsimp only [un3]
        rw [Nat.sub_self, if_pos (by decide), encM_in hs60]) sel 0 (g4, nI sel, encM (N 0)) (by omega) ⟨g4, rfl, b2⟩
    obtain ⟨g5, rfl, k5⟩ := f2
    refine ⟨g5, ?_, k5⟩
    refine Eq.trans (congrArg (fun x => Option.bind x _) e1) ?_
    rw [Option.bind_some]
    dsimp only [un2]
    rw [if_neg (nI_ne0 hpos (by omega)), rd_l (x := 5) 5 rfl (by omega) (by decide), Option.bind_some, k2.1.2.1, hz, wr_l (x := 5) 5 rfl (by omega) (by decide), Option.bind_some, rd_l (x := 5) 5 rfl (by omega) (by decide), Option.bind_some, k3.1.2.1, hs2, Option.bind_some, b1, Option.bind_some]
    exact f1
end PDX
