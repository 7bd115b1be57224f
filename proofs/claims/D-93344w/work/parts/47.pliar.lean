/-! who told it wrong -/
set_option maxRecDepth 100000
section LIA
variable {E : EE} {L : RLt} {U : Nat → Int32} {en : Nat → Nat} {g0 h0 : St} {z : Int32} {T : Tn}
def liQ (T : Tn) (r : Nat) : Bool := decide (cnt (ft T (nI r)) 204 0 ≠ 0)
def liI (o : Option Nat) : Int32 := match o with
  | none => -3
  | some r => nI r
theorem kw_liar {g : St} (k : KR g0 g T z 6) (w : WF T) : ∃ g', kF_liar g = some ((if cnt (ft T (-1)) 204 0 = 0 then liI (fi (liQ T) (T 3) 0) else -3), g') ∧ KR g0 g' T z 6 := by
  have h3 : T 3 ≤ 6 := w.2.2.1
  unfold kF_liar
  obtain ⟨g1, a1, a2, -⟩ := kw_fits k w (-1)
  have hcl := cnt_le_n (ft T (-1)) 204 0
  rw [a1, Option.bind_some]
  dsimp only [un2]
  rw [il0 (by omega)]
  by_cases e : cnt (ft T (-1)) 204 0 = 0
  · rw [if_pos (show cnt (ft T (-1)) 204 0 ≤ 0 by omega), if_pos e]
    obtain ⟨t, e1, e2⟩ := iter_inx (body := un2 fun s5a s5b =>
        if (s5a 40 2) ≤ s5b then
          some (.inr (s5a, s5b))
        else
          (kF_fitsBut s5a s5b).bind (un2 fun y8a y8b =>
          if y8a = 0 then
            some (.inl (y8b, (s5b + (1 : Int32))))
          else
            some (.inr (y8b, s5b)))) (fun i s => ∃ g', s = (g', nI i) ∧ KR g0 g' T z 6 ∧ ∀ r, r < i → liQ T r = false) (fun t => ∃ g', KR g0 g' T z 6 ∧ ((t = (g', nI (T 3)) ∧ fi (liQ T) (T 3) 0 = none) ∨ ∃ r, r < T 3 ∧ t = (g', nI r) ∧ fi (liQ T) (T 3) 0 = some r)) (T 3)
      (by
        rintro i hi s ⟨g2, rfl, k2, lo⟩
        obtain ⟨g3, b1, b2, -⟩ := kw_fits k2 w (nI i)
        have hcl := cnt_le_n (ft T (nI i)) 204 0
        dsimp only [un2]
        rw [if_neg (show ¬ g2 40 2 ≤ nI i by rw [K_rep k2]; exact nI_ge hi (by omega)), b1, Option.bind_some]
        dsimp only [un2]
        rw [ie0 (by omega)]
        by_cases q : cnt (ft T (nI i)) 204 0 = 0
        · left
          refine ⟨(g3, nI (i + 1)), by rw [if_pos q, nI_1], g3, rfl, b2, fun r hr => ?_⟩
          by_cases er : r = i
          · subst er
            unfold liQ
            simp [q]
          · exact lo r (by omega)
        · right
          refine ⟨(g3, nI i), by rw [if_neg q], g3, b2, Or.inr ⟨i, hi, rfl, fi_least (by omega) (by omega) (by unfold liQ; simp [q]) (fun r _ hr => lo r hr)⟩⟩)
      (by
        rintro s ⟨g2, rfl, k2, lo⟩
        refine ⟨_, ?_, g2, k2, Or.inl ⟨rfl, fi_none (fun i _ hi => lo i (by omega))⟩⟩
        dsimp only [un2]
        rw [if_pos (show g2 40 2 ≤ nI (T 3) by rw [K_rep k2]; exact nI_le (Nat.le_refl _) (by omega))]) (T 3) 0 (g1, (0 : Int32)) (by omega) ⟨g1, rfl, a2, fun r hr => by omega⟩
    rw [e1, Option.bind_some]
    obtain ⟨g', k', ⟨rfl, hf⟩ | ⟨r, hr, rfl, hf⟩⟩ := e2
    · refine ⟨g', ?_, k'⟩
      dsimp only [un2]
      rw [if_pos (show g' 40 2 ≤ nI (T 3) by rw [K_rep k']; exact nI_le (Nat.le_refl _) (by omega)), hf]
      rfl
    · refine ⟨g', ?_, k'⟩
      dsimp only [un2]
      rw [if_neg (show ¬ g' 40 2 ≤ nI r by rw [K_rep k']; exact nI_ge hr (by omega)), hf]
      rfl
  · rw [if_neg (show ¬ cnt (ft T (-1)) 204 0 ≤ 0 by omega), if_neg e]
    exact ⟨g1, rfl, a2⟩
theorem tw_liar {h : St} (k : TR h0 h T z U 6) (w : WF T) : ∃ h', tF_liar h = some ((if cnt (ft T (-1)) 204 0 = 0 then liI (fi (liQ T) (T 3) 0) else -3), h') ∧ TR h0 h' T z U 6 := by
  have h3 : T 3 ≤ 6 := w.2.2.1
  unfold tF_liar
  obtain ⟨g1, a1, a2, a3, -⟩ := tw_fits k w (-1)
  have hcl := cnt_le_n (ft T (-1)) 204 0
  rw [a1, Option.bind_some, a3, ie0 (by omega)]
  by_cases e : cnt (ft T (-1)) 204 0 = 0
  · rw [if_pos e, if_pos e]
    obtain ⟨t, e1, e2⟩ := iter_inx (body := un2 fun s2a s2b =>
      (rd (s2a 1) 340 (3 : Int32)).bind fun x4 =>
      if x4 ≤ s2b then
        some (.inr ((-3 : Int32), s2a))
      else
        if (1 : Int32) = 0 then
          some (.inr ((-3 : Int32), s2a))
        else
          (tF_findFits s2a s2b).bind fun g7 =>
          if (g7 0 20) ≤ 0 then
            some (.inl (g7, (s2b + (1 : Int32))))
          else
            some (.inr (s2b, g7))) (fun i s => ∃ g', s = (g', nI i) ∧ TR h0 g' T z U 6 ∧ ∀ r, r < i → liQ T r = false) (fun t => ∃ g', t = (liI (fi (liQ T) (T 3) 0), g') ∧ TR h0 g' T z U 6) (T 3)
      (by
        rintro i hi s ⟨g2, rfl, k2, lo⟩
        obtain ⟨g3, b1, b2, b3, -⟩ := tw_fits k2 w (nI i)
        have hcl := cnt_le_n (ft T (nI i)) 204 0
        dsimp only [un2]
        rw [T_rep k2, Option.bind_some, if_neg (nI_ge hi (by omega)), if_neg c10, b1, Option.bind_some, b3, il0 (by omega)]
        by_cases q : cnt (ft T (nI i)) 204 0 = 0
        · left
          refine ⟨(g3, nI (i + 1)), by rw [if_pos (by omega), nI_1], g3, rfl, b2, fun r hr => ?_⟩
          by_cases er : r = i
          · subst er
            unfold liQ
            simp [q]
          · exact lo r (by omega)
        · right
          refine ⟨(nI i, g3), by rw [if_neg (by omega)], g3, ?_, b2⟩
          rw [show fi (liQ T) (T 3) 0 = some i from fi_least (by omega) (by omega) (by unfold liQ; simp [q]) (fun r _ hr => lo r hr)]
          rfl)
      (by
        rintro s ⟨g2, rfl, k2, lo⟩
        refine ⟨((-3 : Int32), g2), ?_, g2, ?_, k2⟩
        · dsimp only [un2]
          rw [T_rep k2, Option.bind_some, if_pos (nI_le (Nat.le_refl _) (by omega))]
        · rw [show fi (liQ T) (T 3) 0 = none from fi_none (fun i _ hi => lo i (by omega))]
          rfl) (T 3) 0 (g1, (0 : Int32)) (by omega) ⟨g1, rfl, a2, fun r hr => by omega⟩
    obtain ⟨g', rfl, k'⟩ := e2
    exact ⟨g', e1, k'⟩
  · rw [if_neg e, if_neg e]
    refine ⟨g1, ?_, a2⟩
    apply iter_done
    dsimp only [un2]
    rw [T_rep a2, Option.bind_some, if_pos (show (0 : Int32) = 0 from rfl)]
    split <;> rfl
theorem pb_liar {g h : St} (j : JT E L U en g0 h0 T z g h) : Pb E L U en g0 h0 (kF_liar g) (tF_liar h) := by
  obtain ⟨g', a1, a2⟩ := kw_liar j.k j.w
  obtain ⟨h', b1, b2⟩ := tw_liar j.t j.w
  exact Pb.to j a1 b1 a2 b2
end LIA
