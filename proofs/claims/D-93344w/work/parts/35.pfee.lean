/-! which fee would do; a game of two -/
set_option maxRecDepth 100000
section PFE
variable {E : EE} {L : RLt} {U : Nat → Int32} {en : Nat → Nat} {g0 h0 : St} {T : Tn} {z : Int32} {g h : St}
/-- the fee's number: 50 - i, below 0 at 51 -/
theorem f50 : ∀ i, i ≤ 51 → nI 50 - nI i = if i ≤ 50 then nI (50 - i) else -1 := by decide
/-- the first i by which all can be done in m -/
def fe (L : RLt) (T : Tn) (m : Nat) : Option Nat := fi (fun i => (few L 6 m (tup T 2 (50 - i))).isSome) 51 0
def feI (o : Option Nat) : Int32 := match o with
  | none => -3
  | some i => nI (50 - i)
theorem tup2_back {T : Tn} {v : Nat} : tup (tup T 2 v) 2 (T 2) = T := tup_back
theorem kw_feeFor (j : JT E L U en g0 h0 T z g h) {m : Nat} (hm : 1 ≤ m ∧ m ≤ 6) : ∃ g', kF_feeFor E g (nI m) = some (feI (fe L T m), g') ∧ KR g0 g' T z 6 := by
  have w := j.w
  have k := j.k
  have p : ∀ (s : St) (v : Int32), pf s 40 1 v = some (up2 s 40 1 v) := fun _ _ => rfl
  have hin : kF_isIn (nI m) 1 6 = 1 := by
    unfold kF_isIn
    rw [if_neg (show ¬ nI m < (1 : Int32) from nI_nlt (b := 1) hm.1 (by omega)), if_neg (show ¬ (6 : Int32) < nI m from nI_nlt (a := 6) hm.2 (by omega))]
  unfold kF_feeFor
  rw [hin, if_neg c10, p, Option.bind_some, K_fee k]
  -- the loop
  obtain ⟨t, e1, e2⟩ := iter_inx (body := fun s10 =>
          if (s10 40 1) < 0 then
            some (.inr (.inr (.inl s10)))
          else
            (kF_fewestOf E s10 (nI m)).bind (un2 fun y14a y14b =>
            if y14a < 0 then
              (pf y14b 40 1 ((y14b 40 1) - (1 : Int32))).bind fun g15 =>
              some (.inl g15)
            else
              some (.inr (.inl y14b)))) (fun i s => ∃ g1, s = up2 g1 40 1 (nI 50 - nI i) ∧ KR g0 g1 T z 6 ∧ ∀ q, q < i → (few L 6 m (tup T 2 (50 - q))).isSome = false) (fun t => (∃ g1, t = (.inr (.inl (up2 g1 40 1 (-1))) : St ⊕ (St ⊕ (Int32 × St))) ∧ KR g0 g1 T z 6 ∧ fe L T m = none) ∨ ∃ g1 i, t = .inl g1 ∧ i ≤ 50 ∧ KR g0 g1 (tup T 2 (50 - i)) z 6 ∧ fe L T m = some i) 51
    (by
      rintro i hi s ⟨g1, rfl, k1, lo⟩
      have e50 := f50 i (by omega)
      rw [if_pos (by omega)] at e50
      rw [e50]
      have k2 := k1.put 2 (50 - i) (b := 40) (j := 1) (by omega) (by omega) (by omega) rfl
      have w2 : WF (tup T 2 (50 - i)) := w.set (by omega)
      have e1 : up2 g1 40 1 (nI (50 - i)) 40 1 = nI (50 - i) := up2_s
      generalize up2 g1 40 1 (nI (50 - i)) = g2 at k2 e1
      rw [if_neg (show ¬ g2 40 1 < 0 by rw [e1]; exact nI_pos (by omega))]
      obtain ⟨g3, a1, a2, -⟩ := kw_few (m := m) j.hL (by omega) w2 (Or.inr rfl) (j.hE.set w (by omega) (fun p hp => by omega)) k2
      rw [a1, Option.bind_some]
      dsimp only [un2]
      have hneg := flI_neg (o := few L 6 m (tup T 2 (50 - i))) (fun r hr => by have := few_len hr; omega)
      cases q : few L 6 m (tup T 2 (50 - i)) with
      | none =>
        left
        rw [q] at hneg
        rw [if_pos (hneg.mpr rfl), p, Option.bind_some]
        have e3 : g3 40 1 - 1 = nI 50 - nI (i + 1) := by
          rw [K_fee a2, tup_s, ← e50, ← nI_1 i]
          apply Int32.toBitVec_inj.mp
          show ((nI 50).toBitVec - (nI i).toBitVec) - (1 : Int32).toBitVec = (nI 50).toBitVec - ((nI i).toBitVec + (1 : Int32).toBitVec)
          generalize (nI 50).toBitVec = a
          generalize (nI i).toBitVec = b
          generalize (1 : Int32).toBitVec = c
          rw [BitVec.sub_eq_add_neg, BitVec.sub_eq_add_neg, BitVec.sub_eq_add_neg, BitVec.neg_add, BitVec.sub_eq_add_neg, BitVec.add_assoc]
        rw [e3]
        refine ⟨_, rfl, up2 g3 40 1 (nI (T 2)), ?_, (a2.put 2 (T 2) (b := 40) (j := 1) (by omega) (by omega) (by omega) rfl).to tup2_back, fun r hr => ?_⟩
        · rw [up2_up2]
        · by_cases er : r = i
          · subst er
            rw [q]
            rfl
          · exact lo r (by omega)
      | some r =>
        right
        rw [q] at hneg
        rw [if_neg (fun x => by cases hneg.mp x)]
        exact ⟨_, rfl, Or.inr ⟨g3, i, rfl, by omega, a2, fi_least (by omega) (by omega) (by simp [q]) (fun r _ hr => lo r hr)⟩⟩)
    (by
      rintro s ⟨g1, rfl, k1, lo⟩
      rw [show nI 50 - nI 51 = -1 from rfl]
      refine ⟨_, ?_, Or.inl ⟨g1, rfl, k1, fi_none (fun i _ hi => lo i (by omega))⟩⟩
      have e1 : up2 g1 40 1 (-1) 40 1 = -1 := up2_s
      generalize up2 g1 40 1 (-1) = g2 at e1
      rw [if_pos (show g2 40 1 < 0 by rw [e1]; decide)]) 51 0 (up2 g 40 1 50) (by omega) ⟨g, rfl, k, fun q hq => by omega⟩
  rw [e1]
  rcases e2 with ⟨g1, rfl, k1, hf⟩ | ⟨g1, i, rfl, hi, k1, hf⟩
  · rw [hf]
    refine ⟨up2 g1 40 1 (nI (T 2)), ?_, (k1.put 2 (T 2) (b := 40) (j := 1) (by omega) (by omega) (by omega) rfl).to (by funext x; unfold tup; split <;> simp_all)⟩
    simp only [jn, Option.bind_some, Sum.elim_inl, Sum.elim_inr]
    rw [p, Option.bind_some, up2_up2]
    rfl
  · rw [hf]
    refine ⟨up2 g1 40 1 (nI (T 2)), ?_, (k1.put 2 (T 2) (b := 40) (j := 1) (by omega) (by omega) (by omega) rfl).to tup2_back⟩
    show some (g1 40 1, up2 g1 40 1 (nI (T 2))) = _
    rw [K_fee k1, tup_s]
    rfl
theorem tw_feeFor (j : JT E L U en g0 h0 T z g h) {m : Nat} (hm : 1 ≤ m ∧ m ≤ 6) : ∃ h', tF_feeFor h (nI m) = some (feI (fe L T m), h') ∧ TR h0 h' T z U 6 := by
  have w := j.w
  have t := j.t
  have hin : kF_isIn (nI m) 1 6 = 1 := by
    unfold kF_isIn
    rw [if_neg (show ¬ nI m < (1 : Int32) from nI_nlt (b := 1) hm.1 (by omega)), if_neg (show ¬ (6 : Int32) < nI m from nI_nlt (a := 6) hm.2 (by omega))]
  unfold tF_feeFor
  rw [show tF_in (nI m).toInt64 (1 : Int64) (6 : Int64) = kF_isIn (nI m) 1 6 from tin (nI m) 1 6, hin, if_neg c10, T_fee t, Option.bind_some]
  obtain ⟨r, e1, e2⟩ := iter_inx (body := un3 fun s6a s6b s6c =>
        if s6c < 0 then
          some (.inr (s6a, s6b))
        else
          if 0 ≤ s6b then
            some (.inr (s6a, s6b))
          else
            (wr s6a 1 340 (2 : Int32) s6c).bind fun g10 =>
            (tF_goesAll g10 (nI m)).bind fun g11 =>
            if (g11 0 11) ≤ 0 then
              some (.inl (g11, (-3 : Int32), (s6c + (-1 : Int32))))
            else
              some (.inl (g11, s6c, (s6c + (-1 : Int32))))) (fun i s => ∃ h1 v, TR h0 h1 (tup T 2 v) z U 6 ∧ v ≤ 50 ∧ ((s = (h1, (-3 : Int32), nI 50 - nI i) ∧ ∀ q, q < i → (few L 6 m (tup T 2 (50 - q))).isSome = false) ∨ ∃ k, fe L T m = some k ∧ k ≤ 50 ∧ s = (h1, nI (50 - k), nI 50 - nI i))) (fun r => ∃ h1 v, r = (h1, feI (fe L T m)) ∧ v ≤ 50 ∧ TR h0 h1 (tup T 2 v) z U 6) 51
    (by
      rintro i hi s ⟨h1, v, k1, hv, ⟨rfl, lo⟩ | ⟨k, hk, hk50, rfl⟩⟩
      · have e50 := f50 i (by omega)
        rw [if_pos (by omega)] at e50
        have w2 : WF (tup T 2 (50 - i)) := w.set (by omega)
        dsimp only [un3]
        rw [e50, if_neg (nI_pos (by omega)), if_neg (show ¬ (0 : Int32) ≤ -3 by decide)]
        obtain ⟨h2, a1, a2, -⟩ := k1.wrT 2 (50 - i) (x := 2) rfl (by omega) (by omega) (by omega)
        have a2' : TR h0 h2 (tup T 2 (50 - i)) z U 6 := a2.to (by funext x; unfold tup; split <;> rfl)
        obtain ⟨h3, b1, b2, b3⟩ := tw_goesAll (m := m) j.hU j.hL (by omega) w2 (Or.inr rfl) a2'
        have hc := cnt_few L 6 m (tup T 2 (50 - i))
        have hl := cnt_lt L 6 m w2 (by omega)
        have e3 : nI (50 - i) + (-1) = nI 50 - nI (i + 1) := by
          rw [← e50, ← nI_1 i]
          apply Int32.toBitVec_inj.mp
          show ((nI 50).toBitVec - (nI i).toBitVec) + (-1 : Int32).toBitVec = (nI 50).toBitVec - ((nI i).toBitVec + (1 : Int32).toBitVec)
          have e1 : (-1 : Int32).toBitVec = -(1 : Int32).toBitVec := by decide
          rw [e1]
          generalize (nI 50).toBitVec = a
          generalize (nI i).toBitVec = b
          generalize (1 : Int32).toBitVec = c
          rw [BitVec.sub_eq_add_neg, BitVec.sub_eq_add_neg, BitVec.neg_add, BitVec.sub_eq_add_neg, BitVec.add_assoc]
        rw [a1, Option.bind_some, b1, Option.bind_some, b3.1, il0 hl, e3]
        left
        cases q : few L 6 m (tup T 2 (50 - i)) with
        | none =>
          rw [if_pos (by rw [hc.mpr q]; omega)]
          refine ⟨_, rfl, h3, 50 - i, b2, by omega, Or.inl ⟨rfl, fun r hr => ?_⟩⟩
          by_cases er : r = i
          · subst er
            rw [q]
            rfl
          · exact lo r (by omega)
        | some r =>
          rw [if_neg (fun x => by
            have : (goA L 6 m (tup T 2 (50 - i)) [] 0 (0, 0, none, none)).1 = 0 := by omega
            rw [hc.mp this] at q
            cases q)]
          exact ⟨_, rfl, h3, 50 - i, b2, by omega, Or.inr ⟨i, fi_least (by omega) (by omega) (by simp [q]) (fun r _ hr => lo r hr), by omega, rfl⟩⟩
      · right
        dsimp only [un3]
        refine ⟨(h1, nI (50 - k)), ?_, h1, v, ?_, hv, k1⟩
        · split
          · rfl
          · rw [if_pos (nI_pos' (by omega))]
        · rw [hk]
          rfl)
    (by
      rintro s ⟨h1, v, k1, hv, ⟨rfl, lo⟩ | ⟨k, hk, hk50, rfl⟩⟩
      · refine ⟨(h1, -3), rfl, h1, v, ?_, hv, k1⟩
        rw [show fe L T m = none from fi_none (fun i _ hi => lo i (by omega))]
        rfl
      · refine ⟨(h1, nI (50 - k)), rfl, h1, v, ?_, hv, k1⟩
        rw [hk]
        rfl) 51 0 (h, (-3 : Int32), (50 : Int32)) (by omega) ⟨h, T 2, t.to (by funext x; unfold tup; split <;> simp_all), w.fee, Or.inl ⟨rfl, fun q hq => by omega⟩⟩
  obtain ⟨h1, v, rfl, hv, k1⟩ := e2
  rw [e1, Option.bind_some]
  dsimp only [un2]
  obtain ⟨h2, a1, a2, -⟩ := k1.wrT 2 (T 2) (x := 2) rfl (by omega) (by omega) (by omega)
  rw [a1, Option.bind_some]
  exact ⟨h2, rfl, a2.to tup2_back⟩
theorem pb_feeFor (j : JT E L U en g0 h0 T z g h) (a1 : Int32) : Pb E L U en g0 h0 (kF_feeFor E g a1) (tF_feeFor h a1) := by
  rcases isJ_c a1 (a := 1) (m := 6) (A := 1) (M := 6) rfl rfl (by omega) (by omega) with q | ⟨m, h1, h2, rfl, q⟩
  · refine Pb.same (r := -1) j ?_ ?_
    · unfold kF_feeFor
      rw [q, if_pos rfl]
    · unfold tF_feeFor
      rw [show tF_in a1.toInt64 (1 : Int64) (6 : Int64) = kF_isIn a1 1 6 from tin a1 1 6, q, if_pos rfl]
  · obtain ⟨g', a1, a2⟩ := kw_feeFor j ⟨h1, h2⟩
    obtain ⟨h', b1, b2⟩ := tw_feeFor j ⟨h1, h2⟩
    exact Pb.to j a1 b1 a2 b2
end PFE
