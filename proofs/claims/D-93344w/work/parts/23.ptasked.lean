/-! what the reference says is asked -/
set_option maxRecDepth 100000
section TRA
variable {h0 h : St} {T : Tn} {z : Int32} {U : Nat → Int32} {ab : Nat}
theorem tw_asked {L : RLt} {en : Nat → Nat} (k : TR h0 h T z U ab) (w : WF T) (ha : ab ≤ 6) (hU : UR U L en) (hL : LOK L) {p : Nat} (hp : p < T 0) : ∃ h', tF_asked h (nI p) = some (nI (pr L T ab p), h') ∧ TR h0 h' T z U ab ∧ ∀ b, b ≠ 6 → h' b = h b := by
  have p6 := w.p6 hp
  have hn := w.n
  have b1 := w.ha p6
  have b2 := w.ne p6
  have b3 := w.kd p6
  have b4 := w.co p6
  have b5 := w.wo b1
  have b6 := w.wo b2
  have b7 := w.fee
  have hb := bas_le w p6
  have hl1 := hL.1
  have e4 : ∀ j : Nat, (106 : Int32) + (4 : Int32) * nI j = nI (106 + 4 * j) := fun j => by rw [show (4 : Int32) = nI 4 from rfl, pk_mul, show (106 : Int32) = nI 106 from rfl, nI_add]
  have key : ∀ (m i : Nat) (s : St), i + m = L.1 → TR h0 s T z U ab → ∃ s', iter (L := St × Int32 × Int32 × Int32) (T := St × Int32) (un4 fun s34a s34b s34c s34d =>
      (rd (s34a 1) 340 (1 : Int32)).bind fun x36 =>
      if x36 ≤ s34d then
        some (.inr (s34a, s34b))
      else
        if 0 ≤ s34b then
          some (.inr (s34a, s34b))
        else
          (rd (s34a 1) 340 (((106 : Int32) + ((4 : Int32) * s34d)) + (0 : Int32))).bind fun x39 =>
          Option.bind (α := St × Int32) (β := ((St × Int32 × Int32 × Int32) ⊕ (St × Int32)))
            (if (tF_isUnder (nI (T (22 + 5 * p))) x39) = 0 then
              some (s34a, (-1 : Int32))
            else
              (rd (s34a 1) 340 (((106 : Int32) + ((4 : Int32) * s34d)) + (3 : Int32))).bind fun x44 =>
              (tF_isSo s34a s34c x44 (nI p)).bind (un2 fun y45a y45b =>
              if y45a = 0 then
                some (y45b, (-1 : Int32))
              else
                some (y45b, ((106 : Int32) + ((4 : Int32) * s34d)))))
            (un2 fun j41a j41b => (rd (j41a 1) 340 (((106 : Int32) + ((4 : Int32) * s34d)) + (3 : Int32))).bind fun x43 =>
            some (.inl (j41a, j41b, x43, (s34d + (1 : Int32)))))) (s, (-1 : Int32), nI (en i), nI i) = some (s', match fi (fun k => isOfS (T (22 + 5 * p)) (L.2.1 k).1 && L.2.2 k (fac T ab p)) m i with
        | none => (-1 : Int32)
        | some j => nI (106 + 4 * j)) ∧ TR h0 s' T z U ab ∧ ∀ b, b ≠ 6 → s' b = s b := by
    intro m
    induction m with
    | zero =>
      intro i s hi ks
      refine ⟨s, iter_done ?_, ks, fun _ _ => rfl⟩
      dsimp only [un4]
      rw [ks.rdU 1 (x := 1) rfl (by decide) (Or.inl rfl), Option.bind_some, hU.1, if_pos (nI_le (by omega) (by omega))]
      rfl
    | succ m ih =>
      intro i s hi ks
      have hk : i < L.1 := by omega
      have u := hU.2.2.1 i hk
      have l2 := hL.2 i hk
      have c0 : nI (106 + 4 * i) + (0 : Int32) = nI (106 + 4 * i) := nI_add _ 0
      have c3 : nI (106 + 4 * i) + (3 : Int32) = nI (109 + 4 * i) := by
        rw [show (3 : Int32) = nI 3 from rfl, nI_add]
        congr 1
        omega
      -- what one turn gives
      have step : ∃ s1, TR h0 s1 T z U ab ∧ (∀ b, b ≠ 6 → s1 b = s b) ∧ (un4 fun s34a s34b s34c s34d =>
      (rd (s34a 1) 340 (1 : Int32)).bind fun x36 =>
      if x36 ≤ s34d then
        some (.inr (s34a, s34b))
      else
        if 0 ≤ s34b then
          some (.inr (s34a, s34b))
        else
          (rd (s34a 1) 340 (((106 : Int32) + ((4 : Int32) * s34d)) + (0 : Int32))).bind fun x39 =>
          Option.bind (α := St × Int32) (β := ((St × Int32 × Int32 × Int32) ⊕ (St × Int32)))
            (if (tF_isUnder (nI (T (22 + 5 * p))) x39) = 0 then
              some (s34a, (-1 : Int32))
            else
              (rd (s34a 1) 340 (((106 : Int32) + ((4 : Int32) * s34d)) + (3 : Int32))).bind fun x44 =>
              (tF_isSo s34a s34c x44 (nI p)).bind (un2 fun y45a y45b =>
              if y45a = 0 then
                some (y45b, (-1 : Int32))
              else
                some (y45b, ((106 : Int32) + ((4 : Int32) * s34d)))))
            (un2 fun j41a j41b => (rd (j41a 1) 340 (((106 : Int32) + ((4 : Int32) * s34d)) + (3 : Int32))).bind fun x43 =>
            some (.inl (j41a, j41b, x43, (s34d + (1 : Int32)))))) (s, (-1 : Int32), nI (en i), nI i) = some (.inl (s1, (if (isOfS (T (22 + 5 * p)) (L.2.1 i).1 && L.2.2 i (fac T ab p)) = true then nI (106 + 4 * i) else (-1 : Int32)), nI (en (i + 1)), nI (i + 1))) := by
        have hso : ∃ (s1 : St) (x : Int32), tF_isSo s (nI (en i)) (nI (en (i + 1))) (nI p) = some (zI (decide (x = 1)), s1) ∧ (TR h0 s1 T z U ab ∧ ∀ b, b ≠ 6 → s1 b = s b) ∧ L.2.2 i (fac T ab p) = decide (x = 1) := by
          rcases hU.2.2.2 i hk (fac T ab p) with ⟨q1, q2⟩ | ⟨x, q1, q2⟩
          · obtain ⟨s1, r1, r2⟩ := tw_isSo (x := 1) ks w ha hp u.1 u.2.1 (Or.inl ⟨q1, rfl⟩)
            exact ⟨s1, 1, r1, r2, by rw [q2]; rfl⟩
          · obtain ⟨s1, r1, r2⟩ := tw_isSo (x := x) ks w ha hp u.1 u.2.1 (Or.inr q1)
            exact ⟨s1, x, r1, r2, q2⟩
        obtain ⟨s1, x, r1, ⟨r2, r4⟩, r3⟩ := hso
        by_cases q : isOfS (T (22 + 5 * p)) (L.2.1 i).1 = true
        · refine ⟨s1, r2, r4, ?_⟩
          dsimp only [un4]
          rw [ks.rdU 1 (x := 1) rfl (by decide) (Or.inl rfl), Option.bind_some, hU.1, if_neg (nI_ge hk (by omega)), if_neg (by decide), e4, c0, ks.rdU (106 + 4 * i) rfl (by omega) (by omega), Option.bind_some, u.2.2.1, isUnder_n _ (by omega) _ (by omega), iz, if_pos q, c3, ks.rdU (109 + 4 * i) rfl (by omega) (by omega), Option.bind_some, u.2.2.2.2.2, r1, Option.bind_some]
          dsimp only [un2]
          rw [iz, q, r3, Bool.true_and]
          by_cases qx : x = 1
          · have d : decide (x = 1) = true := by simp [qx]
            rw [d, if_pos rfl, Option.bind_some]
            dsimp only [un2]
            rw [r2.rdU (109 + 4 * i) rfl (by omega) (by omega), Option.bind_some, u.2.2.2.2.2, nI_1, if_pos rfl]
          · have d : decide (x = 1) = false := by simp [qx]
            rw [d, if_neg (by decide), Option.bind_some]
            dsimp only [un2]
            rw [r2.rdU (109 + 4 * i) rfl (by omega) (by omega), Option.bind_some, u.2.2.2.2.2, nI_1, if_neg (by decide)]
        · refine ⟨s, ks, fun _ _ => rfl, ?_⟩
          have q' : isOfS (T (22 + 5 * p)) (L.2.1 i).1 = false := by simpa using q
          dsimp only [un4]
          rw [ks.rdU 1 (x := 1) rfl (by decide) (Or.inl rfl), Option.bind_some, hU.1, if_neg (nI_ge hk (by omega)), if_neg (by decide), e4, c0, ks.rdU (106 + 4 * i) rfl (by omega) (by omega), Option.bind_some, u.2.2.1, isUnder_n _ (by omega) _ (by omega), iz, if_neg q, Option.bind_some]
          dsimp only [un2]
          rw [c3, ks.rdU (109 + 4 * i) rfl (by omega) (by omega), Option.bind_some, u.2.2.2.2.2, nI_1, q', Bool.false_and, if_neg (by decide)]
      obtain ⟨s1, k1, kf, hst⟩ := step
      by_cases q : (isOfS (T (22 + 5 * p)) (L.2.1 i).1 && L.2.2 i (fac T ab p)) = true
      · rw [if_pos q] at hst
        refine ⟨s1, ?_, k1, kf⟩
        rw [iter_step hst]
        unfold fi
        rw [if_pos q]
        apply iter_done
        dsimp only [un4]
        rw [k1.rdU 1 (x := 1) rfl (by decide) (Or.inl rfl), Option.bind_some, hU.1]
        split
        · rfl
        · rw [if_pos (nI_pos' (by omega))]
      · rw [if_neg q] at hst
        obtain ⟨s', a1, a2, a3⟩ := ih (i + 1) s1 (by omega) k1
        refine ⟨s', ?_, a2, fun b n => (a3 b n).trans (kf b n)⟩
        rw [iter_step hst]
        unfold fi
        rw [if_neg q]
        exact a1
  obtain ⟨s, a1, a2, a3⟩ := key L.1 0 h (by omega) k
  rw [hU.2.1] at a1
  unfold tF_asked
  rw [T_kd k p6, Option.bind_some]
  rw [show ((h, (-1 : Int32), (0 : Int32), (0 : Int32)) : St × Int32 × Int32 × Int32) = (h, (-1 : Int32), nI 0, nI 0) from rfl, a1, Option.bind_some]
  have fin : ∀ v, v ≤ 248 → ((tF_its s (nI p) (3 : Int32)).bind fun x15 =>
          (dv x15 (10 : Int32)).bind fun x16 =>
          if nI (T (22 + 5 * p)) = (2 : Int32) then
            some ((tF_atLeast (nI v - x16)), s)
          else if nI (T (22 + 5 * p)) = (3 : Int32) then
            (tF_wholeSet s).bind fun x18 =>
            if x18 = 0 then
              (dv (tF_atLeast (nI v - x16)) (2 : Int32)).bind fun x19 =>
              some (x19, s)
            else
              some ((tF_atLeast (nI v - x16)), s)
          else if nI (T (22 + 5 * p)) = (4 : Int32) then
            some (((2 : Int32) * nI v), s)
          else if nI (T (22 + 5 * p)) = (5 : Int32) then
            some ((tF_atLeast (((2 : Int32) * nI v) - (7 : Int32))), s)
          else
            some (nI v, s)) = some (nI (askS (T (22 + 5 * p)) v (T (25 + 5 * p)) (pop (wS T ab (T 0)))), s) := by
    intro v hv
    have hw := wS_64 (T := T) (ab := ab) hn
    have hz : (wS T ab (T 0) = 0) ↔ (pop (wS T ab (T 0)) = 0) := pop0 _ hw
    rw [T_co a2 p6, Option.bind_some, dv10 (by omega), Option.bind_some, tw_wholeSet a2 w ha, Option.bind_some, al_n (by omega) (by omega), dv2 (by omega), Option.bind_some]
    rw [show (2 : Int32) = nI 2 from rfl, show (3 : Int32) = nI 3 from rfl, show (4 : Int32) = nI 4 from rfl, show (5 : Int32) = nI 5 from rfl, show (7 : Int32) = nI 7 from rfl, n0, pk_mul, al_n (by omega) (by omega), ie (by omega) (by omega), ie (by omega) (by omega), ie (by omega) (by omega), ie (by omega) (by omega), ie (by omega) (by omega)]
    unfold askS
    split
    · rfl
    · split
      · split
        · next q => rw [if_pos (hz.mp q)]
        · next q => rw [if_neg (fun z => q (hz.mpr z))]
      · split
        · rfl
        · split <;> rfl
  have pre : ∀ j4 j6 : Int32, ∀ v : Nat, v ≤ 248 → (if j4 = 0 then some ((nI (bas T p)) + j6) else if j4 = (1 : Int32) then some (tF_atLeast ((nI (bas T p)) - j6)) else if j4 = (2 : Int32) then some (0 : Int32) else some (nI (bas T p))) = some (nI v) → ((tF_its s (nI p) (2 : Int32)).bind fun x8 =>
        (rd (s 1) 340 ((6 : Int32) + x8)).bind fun x9 =>
        (tF_its s (nI p) (1 : Int32)).bind fun x10 =>
        (rd (s 1) 340 ((6 : Int32) + x10)).bind fun x11 =>
        (rd (s 1) 340 (2 : Int32)).bind fun x12 =>
        Option.bind (α := Int32) (β := Int32 × St)
          (if j4 = 0 then
            some (((tF_atLeast (x9 - x11)) + x12) + j6)
          else
            if j4 = (1 : Int32) then
              some (tF_atLeast (((tF_atLeast (x9 - x11)) + x12) - j6))
            else
              if j4 = (2 : Int32) then
                some (0 : Int32)
              else
                some ((tF_atLeast (x9 - x11)) + x12))
          (fun j13 => (tF_its s (nI p) (3 : Int32)).bind fun x15 =>
          (dv x15 (10 : Int32)).bind fun x16 =>
          if nI (T (22 + 5 * p)) = (2 : Int32) then
            some ((tF_atLeast (j13 - x16)), s)
          else if nI (T (22 + 5 * p)) = (3 : Int32) then
            (tF_wholeSet s).bind fun x18 =>
            if x18 = 0 then
              (dv (tF_atLeast (j13 - x16)) (2 : Int32)).bind fun x19 =>
              some (x19, s)
            else
              some ((tF_atLeast (j13 - x16)), s)
          else if nI (T (22 + 5 * p)) = (4 : Int32) then
            some (((2 : Int32) * j13), s)
          else if nI (T (22 + 5 * p)) = (5 : Int32) then
            some ((tF_atLeast (((2 : Int32) * j13) - (7 : Int32))), s)
          else
            some (j13, s))) = some (nI (askS (T (22 + 5 * p)) v (T (25 + 5 * p)) (pop (wS T ab (T 0)))), s) := by
    intro j4 j6 v hv hj
    rw [T_ne a2 p6, Option.bind_some, T_wo a2 b2, Option.bind_some, T_ha a2 p6, Option.bind_some, T_wo a2 b1, Option.bind_some, T_fee a2, Option.bind_some, al_n (by omega) (by omega), nI_add]
    have hbas : T (6 + T (24 + 5 * p)) - T (6 + T (23 + 5 * p)) + T 2 = bas T p := rfl
    rw [hbas, hj, Option.bind_some]
    exact fin v hv
  refine ⟨s, ?_, a2, a3⟩
  have hr := rul_le w hL (ab := ab) p6
  unfold pr
  dsimp only [un2]
  have hrul : rul L T ab p = rul L T ab p := rfl
  conv at hrul => rhs; unfold rul
  rw [fiR_fi] at hrul
  cases q : fi (fun k => isOfS (T (22 + 5 * p)) (L.2.1 k).1 && L.2.2 k (fac T ab p)) L.1 0 with
  | none =>
    rw [q] at hrul
    dsimp only at hrul ⊢
    rw [if_neg (by decide), Option.bind_some, if_neg (by decide), Option.bind_some]
    refine pre (-1) 0 _ hr ?_
    rw [hrul]
    rfl
  | some j =>
    rw [q] at hrul
    dsimp only at hrul ⊢
    have hj := fi_in q
    have hk : j < L.1 := by omega
    have u := hU.2.2.1 j hk
    have l2 := hL.2 j hk
    have c1 : nI (106 + 4 * j) + (1 : Int32) = nI (107 + 4 * j) := by
      rw [n1, nI_add]
      congr 1
      omega
    have c2 : nI (106 + 4 * j) + (2 : Int32) = nI (108 + 4 * j) := by
      rw [show (2 : Int32) = nI 2 from rfl, nI_add]
      congr 1
      omega
    rw [if_pos (nI_pos' (by omega)), c1, a2.rdU (107 + 4 * j) rfl (by omega) (by omega), Option.bind_some, Option.bind_some, if_pos (nI_pos' (by omega)), c2, a2.rdU (108 + 4 * j) rfl (by omega) (by omega), Option.bind_some, Option.bind_some]
    refine pre _ _ _ hr ?_
    rw [u.2.2.2.1, u.2.2.2.2.1, hrul]
    unfold chR
    rw [show (2 : Int32) = nI 2 from rfl, n1, n0, ie (by omega) (by omega), ie (by omega) (by omega), ie (by omega) (by omega), nI_add, al_n (by omega) (by omega)]
    by_cases d0 : (L.2.1 j).2.1 = 0
    · rw [if_pos d0, if_pos d0]
    · rw [if_neg d0, if_neg d0]
      by_cases d1 : (L.2.1 j).2.1 = 1
      · rw [if_pos d1, if_pos d1]
      · rw [if_neg d1, if_neg d1, if_pos (by omega)]
end TRA
