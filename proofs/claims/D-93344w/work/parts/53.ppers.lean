/-! what lasts beside the town: the tape, the rows, the trace, the kept town -/
set_option maxRecDepth 100000
def PTape (g h : St) : Prop := ∃ (n : Nat) (tp : Nat → Nat), n ≤ 200 ∧ g 0 11 = nI n ∧ h 0 26 = nI n ∧ ∀ i, i < n → tp i < 256 ∧ g 11 i = (nI (tp i)).toInt8.toInt32 ∧ h 26 i = nI (tp i)
def PRows (g h : St) : Prop := ∃ r, r ≤ 6 ∧ g 0 28 = nI r ∧ h 0 24 = nI r ∧ ∀ i, i < 3 * r → g 28 i = h 24 i
def PTrc (g h : St) : Prop := ∃ b, b ≤ 30 ∧ g 32 1 = nI b ∧ h 0 40 = nI b ∧ ∀ i, i < b → g 33 i = h 40 i
def TO (h : St) (T : Tn) (z : Int32) (U : Nat → Int32) : Prop := (∀ i, i < 106 → i ≠ 1 → i ≠ 5 → h 2 i = nI (T i)) ∧ h 2 5 = z ∧ ∀ i, i = 1 ∨ 106 ≤ i → i < 340 → h 2 i = U i
/-- nothing is kept, or both keep T -/
def PKt (g h : St) (T : Tn) (z : Int32) (U : Nat → Int32) : Prop := (g 0 6 = 0 ∧ h 0 3 = 0) ∨ (g 0 6 = 1 ∧ h 0 3 = 1 ∧ KO 20 g T z ∧ TO h T z U)
def PRS (g h : St) (T : Tn) (z : Int32) (U : Nat → Int32) : Prop := PTape g h ∧ PRows g h ∧ PTrc g h ∧ PKt g h T z U
def kK (g g' : St) : Prop := ∀ b i, kS b i = false → g' b i = g b i
def tK (h h' : St) : Prop := ∀ b i, tS b i = false → h' b i = h b i
theorem ks11 (i : Nat) : kS 11 i = false := by simp [kS, kN]
theorem ks28 (i : Nat) : kS 28 i = false := by simp [kS, kN]
theorem ks32 (i : Nat) : kS 32 i = false := by simp [kS, kN]
theorem ks33 (i : Nat) : kS 33 i = false := by simp [kS, kN]
theorem ks6 {b : Nat} (i : Nat) (h : 60 ≤ b) (h2 : b < 80) : kS b i = false := by
  simp [kS, kN]
  omega
theorem ts2 (i : Nat) : tS 2 i = false := by simp [tS, tN]
theorem ts24 (i : Nat) : tS 24 i = false := by simp [tS, tN]
theorem ts26 (i : Nat) : tS 26 i = false := by simp [tS, tN]
theorem ts40 (i : Nat) : tS 40 i = false := by simp [tS, tN]
section PER
variable {g g' h h' : St} {T Tk : Tn} {z zk : Int32} {U Uk : Nat → Int32} {E : EE} {L : RLt} {en : Nat → Nat} {g0 h0 : St}
theorem PTape.go (p : PTape g h) (a : kK g g') (b : tK h h') : PTape g' h' := by
  obtain ⟨n, tp, p1, p2, p3, p4⟩ := p
  refine ⟨n, tp, p1, by rw [a 0 11 rfl]; exact p2, by rw [b 0 26 rfl]; exact p3, fun i hi => ?_⟩
  rw [a 11 i (ks11 i), b 26 i (ts26 i)]
  exact p4 i hi
theorem PRows.go (p : PRows g h) (a : kK g g') (b : tK h h') : PRows g' h' := by
  obtain ⟨n, p1, p2, p3, p4⟩ := p
  refine ⟨n, p1, by rw [a 0 28 rfl]; exact p2, by rw [b 0 24 rfl]; exact p3, fun i hi => ?_⟩
  rw [a 28 i (ks28 i), b 24 i (ts24 i)]
  exact p4 i hi
theorem PTrc.go (p : PTrc g h) (a : kK g g') (b : tK h h') : PTrc g' h' := by
  obtain ⟨n, p1, p2, p3, p4⟩ := p
  refine ⟨n, p1, by rw [a 32 1 rfl]; exact p2, by rw [b 0 40 rfl]; exact p3, fun i hi => ?_⟩
  rw [a 33 i (ks33 i), b 40 i (ts40 i)]
  exact p4 i hi
theorem KO.go (p : KO 20 g T z) (a : kK g g') : KO 20 g' T z := by
  refine ⟨fun i x y w => ?_, ?_⟩
  · have := km_b i x
    rw [a _ _ (ks6 _ (by omega) (by omega))]
    exact p.1 i x y w
  · rw [a _ _ (ks6 _ (by omega) (by omega))]
    exact p.2
theorem TO.go (p : TO h T z U) (b : tK h h') : TO h' T z U := by
  refine ⟨fun i x y w => ?_, ?_, fun i x y => ?_⟩
  · rw [b 2 i (ts2 i)]
    exact p.1 i x y w
  · rw [b 2 5 (ts2 5)]
    exact p.2.1
  · rw [b 2 i (ts2 i)]
    exact p.2.2 i x y
theorem PKt.go (p : PKt g h T z U) (a : kK g g') (b : tK h h') : PKt g' h' T z U := by
  rcases p with ⟨p1, p2⟩ | ⟨p1, p2, p3, p4⟩
  · exact Or.inl ⟨by rw [a 0 6 rfl]; exact p1, by rw [b 0 3 rfl]; exact p2⟩
  · exact Or.inr ⟨by rw [a 0 6 rfl]; exact p1, by rw [b 0 3 rfl]; exact p2, p3.go a, p4.go b⟩
theorem PRS.go (p : PRS g h T z U) (a : kK g g') (b : tK h h') : PRS g' h' T z U := ⟨p.1.go a b, p.2.1.go a b, p.2.2.1.go a b, p.2.2.2.go a b⟩
theorem KR.kK {ab : Nat} (k : KR g0 g T z ab) : kK g0 g := k.2.2.2
theorem TR.tK {ab : Nat} (t : TR h0 h T z U ab) : tK h0 h := t.2.2.2.2
theorem KR.re {ab : Nat} (k : KR g0 g T z ab) : KR g g T z ab := ⟨k.1, k.2.1, k.2.2.1, fun _ _ _ => rfl⟩
theorem TR.re {ab : Nat} (t : TR h0 h T z U ab) : TR h h T z U ab := ⟨t.1, t.2.1, t.2.2.1, t.2.2.2.1, fun _ _ _ => rfl⟩
theorem JT.re (j : JT E L U en g0 h0 T z g h) : JT E L U en g h T z g h := ⟨j.1, j.2.1, j.hL, j.hE, j.hU, j.k.re, j.t.re⟩
/-- other rows change -/
theorem KR.of {ab : Nat} (k : KR g0 g T z ab) (e : ∀ b, 40 ≤ b → b < 60 → g' b = g b) (e0 : g' 0 15 = g 0 15) : KR g' g' T z ab := by
  refine ⟨fun i a b c => ?_, ?_, ?_, fun _ _ _ => rfl⟩
  · have := km_b i a
    rw [e _ (by omega) (by omega)]
    exact k.1 i a b c
  · rw [e 40 (by omega) (by omega)]
    exact k.2.1
  · rw [e0]
    exact k.2.2.1
theorem TR.of {ab : Nat} (t : TR h0 h T z U ab) (e : h' 1 = h 1) (e0 : h' 0 4 = h 0 4) : TR h' h' T z U ab := by
  refine ⟨fun i a b c => ?_, ?_, fun i a => ?_, ?_, fun _ _ _ => rfl⟩
  · rw [e]
    exact t.1 i a b c
  · rw [e]
    exact t.2.1
  · rw [e]
    exact t.2.2.1 i a
  · rw [e0]
    exact t.2.2.2.1
/-- both answer alike, all goes on alike -/
def PbP (E : EE) (L : RLt) (U : Nat → Int32) (en : Nat → Nat) (Tk : Tn) (zk : Int32) (Uk : Nat → Int32) (h : St) (rk rt : Option (Int32 × St)) : Prop := ∃ r g' h' T' z', rk = some (r, g') ∧ rt = some (r, h') ∧ JT E L U en g' h' T' z' g' h' ∧ PRS g' h' Tk zk Uk ∧ ∀ b, 34 ≤ b → b < 40 → h' b = h b
theorem ts3 {b : Nat} (i : Nat) (h : 34 ≤ b) (h2 : b < 40) : tS b i = false := by
  simp [tS, tN]
  omega
theorem Pb.P {rk rt : Option (Int32 × St)} (p : Pb E L U en g h rk rt) (s : PRS g h Tk zk Uk) : PbP E L U en Tk zk Uk h rk rt := by
  obtain ⟨r, g', h', T', z', e1, e2, j⟩ := p
  refine ⟨r, g', h', T', z', e1, e2, j.re, s.go j.k.kK j.t.tK, fun b a c => ?_⟩
  funext i
  exact j.t.tK b i (ts3 i a c)
theorem pb_row (p : PRows g h) (a b : Int32) : ∃ r, kF_row g a b = some r ∧ tF_row h a b = some r := by
  obtain ⟨r, r6, e1, e2, e3⟩ := p
  unfold kF_row tF_row kF_isRow tF_isRow
  rw [e1, e2, show tF_in a.toInt64 (0 : Int64) (nI r - 1).toInt64 = kF_isIn a 0 (nI r - 1) from tin a 0 _, show tF_in b.toInt64 (0 : Int64) (2 : Int64) = kF_isIn b 0 2 from tin b 0 2]
  rcases isP_c a r6 with q | ⟨p, hp, rfl, q⟩
  · rw [q, if_pos rfl]
    exact ⟨_, rfl, rfl⟩
  rw [q, if_neg c10]
  rcases isI_c b (m := 2) (M := 2) rfl (by omega) with q | ⟨c, hc, rfl, q⟩
  · rw [q, if_pos rfl]
    exact ⟨_, rfl, rfl⟩
  rw [q, if_neg c10, Option.bind_some, Option.bind_some, if_neg c10, if_neg c10, show (3 : Int32) = nI 3 from rfl, pk_mul, nI_add, rd_n (by omega) (by decide), rd_n (by omega) (by decide), Option.bind_some, Option.bind_some, e3 _ (by omega)]
  exact ⟨_, rfl, rfl⟩
theorem pb_alterRow (j : JT E L U en g h T z g h) (s : PRS g h Tk zk Uk) (a b v : Int32) : PbP E L U en Tk zk Uk h (kF_alterRow g a b v) (tF_alterRow h a b v) := by
  obtain ⟨r, r6, e1, e2, e3⟩ := s.2.1
  unfold kF_alterRow tF_alterRow kF_isRow tF_isRow
  rw [e1, e2, show tF_in a.toInt64 (0 : Int64) (nI r - 1).toInt64 = kF_isIn a 0 (nI r - 1) from tin a 0 _, show tF_in b.toInt64 (0 : Int64) (2 : Int64) = kF_isIn b 0 2 from tin b 0 2]
  rcases isP_c a r6 with q | ⟨p, hp, rfl, q⟩
  · rw [q, if_pos rfl]
    exact ⟨_, g, h, T, z, rfl, rfl, j, s, fun _ _ _ => rfl⟩
  rw [q, if_neg c10]
  rcases isI_c b (m := 2) (M := 2) rfl (by omega) with q | ⟨c, hc, rfl, q⟩
  · rw [q, if_pos rfl]
    exact ⟨_, g, h, T, z, rfl, rfl, j, s, fun _ _ _ => rfl⟩
  rw [q, if_neg c10, Option.bind_some, Option.bind_some, if_neg c10, if_neg c10, show (3 : Int32) = nI 3 from rfl, pk_mul, nI_add, rd_n (by omega) (by decide), rd_n (by omega) (by decide), Option.bind_some, Option.bind_some, wr_n (by omega) (by decide), wr_n (by omega) (by decide), Option.bind_some, Option.bind_some, e3 _ (by omega)]
  have o1 : ∀ x, x ≠ 28 → up2 g 28 (3 * p + c) v x = g x := fun x hx => up2_o hx
  have o2 : ∀ x, x ≠ 24 → up2 h 24 (3 * p + c) v x = h x := fun x hx => up2_o hx
  refine ⟨_, _, _, T, z, rfl, rfl, ⟨j.1, j.2.1, j.hL, j.hE, j.hU, j.k.of (fun x a b => o1 x (by omega)) (by rw [o1 0 (by decide)]), j.t.of (o2 1 (by decide)) (by rw [o2 0 (by decide)])⟩, ⟨?_, ?_, ?_, ?_⟩, fun x a b => o2 x (by omega)⟩
  · obtain ⟨n, tp, p1, p2, p3, p4⟩ := s.1
    refine ⟨n, tp, p1, by rw [o1 0 (by decide)]; exact p2, by rw [o2 0 (by decide)]; exact p3, fun i hi => ?_⟩
    rw [o1 11 (by decide), o2 26 (by decide)]
    exact p4 i hi
  · refine ⟨r, r6, by rw [o1 0 (by decide)]; exact e1, by rw [o2 0 (by decide)]; exact e2, fun i hi => ?_⟩
    rw [up2_row, up2_row]
    by_cases e : i = 3 * p + c
    · subst e
      rw [pk_us, pk_us]
    · rw [pk_un e, pk_un e]
      exact e3 i hi
  · obtain ⟨n, p1, p2, p3, p4⟩ := s.2.2.1
    refine ⟨n, p1, by rw [o1 32 (by decide)]; exact p2, by rw [o2 0 (by decide)]; exact p3, fun i hi => ?_⟩
    rw [o1 33 (by decide), o2 40 (by decide)]
    exact p4 i hi
  · rcases s.2.2.2 with ⟨p1, p2⟩ | ⟨p1, p2, p3, p4⟩
    · exact Or.inl ⟨by rw [o1 0 (by decide)]; exact p1, by rw [o2 0 (by decide)]; exact p2⟩
    · refine Or.inr ⟨by rw [o1 0 (by decide)]; exact p1, by rw [o2 0 (by decide)]; exact p2, ⟨fun i x y w => ?_, ?_⟩, ⟨fun i x y w => ?_, ?_, fun i x y => ?_⟩⟩
      · have := km_b i x
        rw [o1 _ (by omega)]
        exact p3.1 i x y w
      · rw [o1 _ (by omega)]
        exact p3.2
      · rw [o2 2 (by decide)]
        exact p4.1 i x y w
      · rw [o2 2 (by decide)]
        exact p4.2.1
      · rw [o2 2 (by decide)]
        exact p4.2.2 i x y
theorem pb_many (j : JT E L U en g h T z g h) (s : PRS g h Tk zk Uk) (a : Int32) : ∃ r, kF_many E g a = some r ∧ tF_many h a = some r := by
  have w := j.w
  have k := j.k
  have t := j.t
  obtain ⟨r, r6, e1, e2, e3⟩ := s.2.1
  obtain ⟨n, tp, p1, p2, p3, p4⟩ := s.1
  obtain ⟨b, q1, q2, q3, q4⟩ := s.2.2.1
  unfold kF_many tF_many tF_traced
  rw [k.1 0 (by omega) (by omega) (by omega) |> (fun x => show g 40 0 = nI (T 0) from x), k.1 4 (by omega) (by omega) (by omega) |> (fun x => show g 40 3 = nI (T 4) from x), k.1 3 (by omega) (by omega) (by omega) |> (fun x => show g 40 2 = nI (T 3) from x), e1, e2, p2, p3, q2, q3, t.rdT 0 (x := 0) rfl (by omega) (by omega) (by omega), t.rdU 1 (x := 1) rfl (by omega) (Or.inl rfl), t.rdT 4 (x := 4) rfl (by omega) (by omega) (by omega), t.rdT 3 (x := 3) rfl (by omega) (by omega) (by omega), j.hE.1, j.hU.1]
  by_cases c0 : a = 0
  · rw [if_pos c0, if_pos c0]
    exact ⟨_, rfl, rfl⟩
  rw [if_neg c0, if_neg c0]
  by_cases c1 : a = 1
  · rw [if_pos c1, if_pos c1]
    exact ⟨_, rfl, rfl⟩
  rw [if_neg c1, if_neg c1]
  by_cases c2 : a = 2
  · rw [if_pos c2, if_pos c2]
    exact ⟨_, rfl, rfl⟩
  rw [if_neg c2, if_neg c2]
  by_cases c3 : a = 3
  · rw [if_pos c3, if_pos c3]
    exact ⟨_, rfl, rfl⟩
  rw [if_neg c3, if_neg c3]
  by_cases c4 : a = 4
  · rw [if_pos c4, if_pos c4]
    exact ⟨_, rfl, rfl⟩
  rw [if_neg c4, if_neg c4]
  by_cases c5 : a = 5
  · rw [if_pos c5, if_pos c5]
    exact ⟨_, rfl, rfl⟩
  rw [if_neg c5, if_neg c5]
  by_cases c6 : a = 6
  · rw [if_pos c6, if_pos c6, show (30 : Int32) = nI 30 from rfl, il (by omega) (by omega)]
    by_cases hb : 30 ≤ b
    · rw [if_pos hb, show b = 30 by omega]
      exact ⟨_, rfl, rfl⟩
    · rw [if_neg hb]
      exact ⟨_, rfl, rfl⟩
  rw [if_neg c6, if_neg c6]
  exact ⟨_, rfl, rfl⟩
theorem pb_trace (s : PTrc g h) (a : Int32) : ∃ r, kF_trace g a = some r ∧ tF_trace h a = some r := by
  obtain ⟨b, q1, q2, q3, q4⟩ := s
  have e : tF_traced h = some (nI b) := by
    unfold tF_traced
    rw [q3, show (30 : Int32) = nI 30 from rfl, il (by omega) (by omega)]
    by_cases hb : 30 ≤ b
    · rw [if_pos hb, show b = 30 by omega]
    · rw [if_neg hb]
  unfold kF_trace tF_trace
  rw [e, Option.bind_some, q2, show tF_in a.toInt64 (0 : Int64) (nI b - 1).toInt64 = kF_isIn a 0 (nI b - 1) from tin a 0 _]
  rcases pk_ix a (n := b) (by omega) with c | c | ⟨i, hi, rfl⟩
  · have : kF_isIn a 0 (nI b - 1) = 0 := by
      unfold kF_isIn
      rw [if_pos c]
    rw [this, if_pos rfl, if_pos rfl]
    exact ⟨_, rfl, rfl⟩
  · have : kF_isIn a 0 (nI b - 1) = 0 := by
      unfold kF_isIn
      split
      · rfl
      · rw [if_pos]
        have e : (nI b - 1).toInt = (b : Int) - 1 := pk_sub_toInt (a := b) (b := 1) (by omega) (by omega)
        have e2 := nI_toInt (n := b) (by omega)
        rw [Int32.le_iff_toInt_le] at c
        rw [Int32.lt_iff_toInt_lt]
        omega
    rw [this, if_pos rfl, if_pos rfl]
    exact ⟨_, rfl, rfl⟩
  · have : ¬ kF_isIn (nI i) 0 (nI b - 1) = 0 := by
      unfold kF_isIn
      have e : (nI b - 1).toInt = (b : Int) - 1 := pk_sub_toInt (a := b) (b := 1) (by omega) (by omega)
      have e2 := nI_toInt (n := i) (by omega)
      rw [if_neg (nI_pos (by omega)), if_neg (by rw [Int32.lt_iff_toInt_lt]; omega)]
      decide
    rw [if_neg this, if_neg this, rd_n (by omega) (by decide), rd_n (by omega) (by decide), q4 i hi]
    exact ⟨_, rfl, rfl⟩
end PER
