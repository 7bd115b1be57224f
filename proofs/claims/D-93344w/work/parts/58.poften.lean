/-! often -/
set_option maxRecDepth 100000
noncomputable def rbK (E : EE) : St × Int32 → Option ((St × Int32) ⊕ St) := un2 fun s5a s5b =>
      if (30 : Int32) ≤ s5b then
        some (.inr s5a)
      else
        (kF_drawn E s5a).bind (un2 fun y8a y8b =>
        if y8a < 0 then
          some (.inr y8b)
        else
          some (.inl (y8b, (s5b + (1 : Int32)))))
noncomputable def rbT : St × Int32 → Option ((St × Int32) ⊕ St) := un2 fun s21a s21b =>
              if s21b < 0 then
                some (.inr s21a)
              else
                (tF_does s21a s21b).bind fun g24 =>
                (tF_drawn g24).bind (un2 fun y25a y25b =>
                some (.inl (y25b, y25a)))
noncomputable def obK (E : EE) (a1 : Int32) : St × Int32 × Int32 × Int32 → Option ((St × Int32 × Int32 × Int32) ⊕ (St × Int32)) := un4 fun s7a s7b s7c s7d =>
        if a1 ≤ s7d then
          some (.inr (s7a, s7b))
        else
          (kF_X3_become_3_5 s7a).bind fun g10 =>
          (pf g10 40 4 s7c).bind fun g11 =>
          (kF_runs E g11).bind (un2 fun y12a y12b =>
          Option.bind (α := Int32) (β := ((St × Int32 × Int32 × Int32) ⊕ (St × Int32)))
            (if y12a = 0 then
              some (0 : Int32)
            else
              some (1 : Int32))
            (fun j14 => some (.inl (y12b, (s7b + j14), (y12b 40 4), (s7d + (1 : Int32))))))
noncomputable def obT (a1 : Int32) : St × Int32 × Int32 → Option ((St × Int32 × Int32) ⊕ (St × Int32)) := un3 fun s6a s6b s6c =>
        if a1 ≤ s6c then
          some (.inr (s6a, s6b))
        else
          (tF_drawn s6a).bind (un2 fun y9a y9b =>
          Option.bind (α := St) (β := ((St × Int32 × Int32) ⊕ (St × Int32)))
            (iter (L := St × Int32) (T := St) rbT (y9b, y9a))
            (fun j10 => (tF_wholeSet j10).bind fun x12 =>
            (tF_thereSet j10).bind fun x13 =>
            Option.bind (α := Int32) (β := ((St × Int32 × Int32) ⊕ (St × Int32)))
              (if x12 = x13 then
                some (1 : Int32)
              else
                some (0 : Int32))
              (fun j14 => (rd (j10 1) 340 (5 : Int32)).bind fun x16 =>
              (tF_putsBack j10).bind fun g17 =>
              (wr g17 1 340 (5 : Int32) x16).bind fun g18 =>
              some (.inl (g18, (s6b + j14), (s6c + (1 : Int32)))))))
section OFT
variable {g0 h0 gb : St} {hb : Nat → Int32} {E : EE} {L : RLt} {U : Nat → Int32} {en : Nat → Nat}
theorem agr_okC {T1 T2 : Tn} (h : agr T1 T2) (w : WF T1) : okC L T2 6 = okC L T1 6 := by
  funext c
  exact (agr_ok h w c).symm
theorem oft_run (hL : LOK L) (hU : UR U L en) : ∀ (m i : Nat) (T1 T2 : Tn) (z : Int32) (g h : St), 6 ≤ hwN T2 + m → i + m ≤ 12 → WF T1 → WF T2 → ER E L T1 → agr T1 T2 → KX g0 gb g T1 z → TX h0 hb U h T2 z → ∃ gf T1f T2f zf, iter (rbK E) (g, nI i) = some gf ∧ KX g0 gb gf T1f zf ∧ WF T1f ∧ WF T2f ∧ agr T1f T2f ∧ ∃ ya h1 hf, tF_drawn h = some (ya, h1) ∧ iter rbT (h1, ya) = some hf ∧ TX h0 hb U hf T2f zf := by
  intro m
  induction m with
  | zero =>
    intro i T1 T2 z g h hm hi w1 w2 hE ha k t
    obtain ⟨N, n, hN⟩ := lot_ex (okC L T1 6)
    have n60 := hN.1
    have hN2 : LotOK (okC L T2 6) N n := by rw [agr_okC ha w1]; exact hN
    obtain ⟨z', hz⟩ : ∃ z', z * 1103515245 + 12345 = z' := ⟨_, rfl⟩
    by_cases q : n = 0
    · obtain ⟨g1, c1, c2⟩ := (kw_drawnX (sel := 0) k w1 hE hL hN hz (fun x => by omega)).1 q
      obtain ⟨h1, d1, d2⟩ := (tw_drawnX (sel := 0) t w2 hU hL hN2 hz (fun x => by omega)).1 q
      refine ⟨g1, T1, T2, z, iter_done ?_, c2, w1, w2, ha, _, h1, h1, d1, iter_done ?_, d2⟩
      · unfold rbK
        dsimp only [un2]
        rw [if_neg (show ¬ (30 : Int32) ≤ nI i from nI_ge (b := 30) (by omega) (by omega)), c1, Option.bind_some]
        rfl
      · rfl
    · exfalso
      have ho := (hN2.2.2.1 0 (by omega)).2
      have := hwN_do w2 ho
      have := hwN_le _ (do_WF w2 ho)
      omega
  | succ m ih =>
    intro i T1 T2 z g h hm hi w1 w2 hE ha k t
    obtain ⟨N, n, hN⟩ := lot_ex (okC L T1 6)
    have n60 := hN.1
    have hN2 : LotOK (okC L T2 6) N n := by rw [agr_okC ha w1]; exact hN
    obtain ⟨z', hz⟩ : ∃ z', z * 1103515245 + 12345 = z' := ⟨_, rfl⟩
    by_cases q : n = 0
    · obtain ⟨g1, c1, c2⟩ := (kw_drawnX (sel := 0) k w1 hE hL hN hz (fun x => by omega)).1 q
      obtain ⟨h1, d1, d2⟩ := (tw_drawnX (sel := 0) t w2 hU hL hN2 hz (fun x => by omega)).1 q
      refine ⟨g1, T1, T2, z, iter_done ?_, c2, w1, w2, ha, _, h1, h1, d1, iter_done ?_, d2⟩
      · unfold rbK
        dsimp only [un2]
        rw [if_neg (show ¬ (30 : Int32) ≤ nI i from nI_ge (b := 30) (by omega) (by omega)), c1, Option.bind_some]
        rfl
      · rfl
    · have hp : 0 < n := by omega
      obtain ⟨sel, hs⟩ := sel_ex z' hp n60
      obtain ⟨g1, c1, c2⟩ := (kw_drawnX k w1 hE hL hN hz (fun _ => hs)).2 hp
      obtain ⟨h1, d1, d2⟩ := (tw_drawnX t w2 hU hL hN2 hz (fun _ => hs)).2 hp
      obtain ⟨hc, ho⟩ := hN.2.2.1 sel hs.1
      have ho2 := (hN2.2.2.1 sel hs.1).2
      generalize N sel = c at c1 c2 d1 hc ho ho2
      obtain ⟨x1, x2⟩ := okC_in ho
      obtain ⟨c60, cp, p6, cq⟩ := chg_in w1 x1
      obtain ⟨h2, e1, e2, -, -, e5, -⟩ := tw_does d2.1 w2 (by omega) hU hL ho2
      have wd := do_WF w1 ho
      have w1' : WF (entT (doT L T1 6 c) c (T1 (23 + 5 * (c / 10))) (doT L T1 6 c (23 + 5 * (c / 10)))) := ent_WF wd hc (by omega) (w1.ha p6) (wd.ha p6)
      have w2' := do_WF w2 ho2
      have ae : agr (entT (doT L T1 6 c) c (T1 (23 + 5 * (c / 10))) (doT L T1 6 c (23 + 5 * (c / 10)))) (doT L T1 6 c) := agr_ent wd.2.2.2.1
      have hE' : ER E L (entT (doT L T1 6 c) c (T1 (23 + 5 * (c / 10))) (doT L T1 6 c (23 + 5 * (c / 10)))) := (do_ER w1 hE ho).keep wd (ae 0 (by omega) (by omega)) (fun p hp => ae _ (by omega) (by omega))
      have ha' := agr_tr ae (agr_do ha w1 ho)
      have hw := hwN_do w2 ho2
      obtain ⟨gf, T1f, T2f, zf, b1, b2, b3, b4, b5, ya, h3, hf, b6, b7, b8⟩ := ih (i + 1) _ _ z' g1 h2 (by omega) (by omega) w1' w2' hE' ha' c2 ⟨e2, (e5 3 (by decide) (by decide) (by decide)).trans d2.2⟩
      refine ⟨gf, T1f, T2f, zf, ?_, b2, b3, b4, b5, _, h1, hf, d1, ?_, b8⟩
      · refine Eq.trans (iter_step (s' := (g1, nI (i + 1))) ?_) b1
        unfold rbK
        dsimp only [un2]
        rw [if_neg (show ¬ (30 : Int32) ≤ nI i from nI_ge (b := 30) (by omega) (by omega)), c1, Option.bind_some]
        dsimp only [un2]
        rw [if_neg (nI_pos (by omega)), nI_1]
      · refine Eq.trans (iter_step (s' := (h3, ya)) ?_) b7
        unfold rbT
        dsimp only [un2]
        rw [if_neg (nI_pos (by omega)), e1, Option.bind_some, b6, Option.bind_some]
        rfl
theorem oft_all {T : Tn} {z : Int32} {g g2 h : St} (hL : LOK L) (hU : UR U L en) (w : WF T) (hE : ER E L T) (ko : KO 40 g2 T z) (kt : TR h h T z U 6) (h3 : ∀ i, i < 340 → hb i = h 1 i) {n : Nat} (n60 : n ≤ 60) : ∀ (m k a : Nat) (zk : Int32) (g' h' : St), k + m = n → a + m ≤ 60 → (∃ T' z', KX g g2 g' T' z') → TX h hb U h' T zk → ∃ gf hf af, iter (obK E (nI n)) (g', nI a, zk, nI k) = some (gf, nI af) ∧ iter (obT (nI n)) (h', nI a, nI k) = some (hf, nI af) ∧ (∃ T' z', KX g g2 gf T' z') ∧ ∃ z', TX h hb U hf T z' := by
  intro m
  induction m with
  | zero =>
    intro k a zk g' h' hk ha kx tx
    refine ⟨g', h', a, iter_done ?_, iter_done ?_, kx, zk, tx⟩
    · unfold obK
      dsimp only [un4]
      rw [if_pos (nI_le (by omega) (by omega))]
    · unfold obT
      dsimp only [un3]
      rw [if_pos (nI_le (by omega) (by omega))]
  | succ m ih =>
    intro k a zk g' h' hk ha kx tx
    obtain ⟨T', z', kx⟩ := kx
    obtain ⟨g3, a1, a2⟩ := bec35 g'
    have ko' : KO 40 g' T z := by
      refine ⟨fun i x y w => ?_, ?_⟩
      · have := km_b i x
        rw [kx.2 _ (by omega)]
        exact ko.1 i x y w
      · rw [kx.2 _ (by omega)]
        exact ko.2
    have k3 := KR.from (off := 40) kx.1 ko' a2
    have kx4 : KX g g2 (up2 g3 40 4 zk) T zk := ⟨k3.putz zk, fun b hb => by rw [up2_o (by omega), a2.1 b (by omega)]; exact kx.2 b hb⟩
    obtain ⟨gf, T1f, T2f, zf, b1, b2, b3, b4, b5, ya, h1, hf, b6, b7, b8⟩ := oft_run hL hU 6 0 T T zk _ h' (by omega) (by omega) w w hE (fun _ _ _ => rfl) kx4 tx
    obtain ⟨h2, c1, c2, c3⟩ := tw_putsBack b8.1 kt (fun i hi => by rw [b8.2]; exact h3 i hi)
    have tx2 : TX h hb U (up2 h2 1 5 zf) T zf := ⟨c2.putz zf, by rw [up2_o (by decide), c3 3 (by decide)]; exact b8.2⟩
    have hd : dn T1f 6 = dn T2f 6 := agr_dn b5 b3
    obtain ⟨gF, hF, aF, r1, r2, r3, r4⟩ := ih (k + 1) (a + if dn T2f 6 = true then 1 else 0) zf gf (up2 h2 1 5 zf) (by omega) (by split <;> omega) ⟨T1f, zf, b2⟩ tx2
    refine ⟨gF, hF, aF, ?_, ?_, r3, r4⟩
    · refine Eq.trans (iter_step (s' := (gf, nI (a + if dn T2f 6 = true then 1 else 0), zf, nI (k + 1))) ?_) r1
      have er : kF_runs E (up2 g3 40 4 zk) = some (zI (dn T1f 6), gf) := by
        unfold kF_runs
        refine Eq.trans (congrArg (fun x => Option.bind x _) b1) ?_
        rw [Option.bind_some, kw_isDone b2.1 b3 (Or.inr rfl), Option.bind_some]
      unfold obK
      dsimp only [un4]
      rw [if_neg (nI_ge (by omega) (by omega)), a1, Option.bind_some]
      show (kF_runs E (up2 g3 40 4 zk)).bind _ = _
      rw [er, Option.bind_some]
      dsimp only [un2]
      rw [hd, b2.1.2.1, nI_1 k]
      cases dn T2f 6 with
      | true =>
        show some (Sum.inl (gf, nI a + 1, zf, nI (k + 1))) = _
        rw [nI_1 a]
        rfl
      | false =>
        show some (Sum.inl (gf, nI a + nI 0, zf, nI (k + 1))) = _
        rw [nI_add]
        rfl
    · refine Eq.trans (iter_step (s' := (up2 h2 1 5 zf, nI (a + if dn T2f 6 = true then 1 else 0), nI (k + 1))) ?_) r2
      have hl := wS_lt (T := T2f) (ab := 6) (n := T2f 0)
      have hn := b4.n
      have hp2 : 2 ^ T2f 0 ≤ 2 ^ 6 := Nat.pow_le_pow_right (by decide) hn
      have hcl : clr (2 ^ T2f 0 - 1) 6 = 2 ^ T2f 0 - 1 := by
        unfold clr
        rw [if_neg (by decide)]
      have hdn := dn_t (T := T2f) (ab := 6) (Or.inr rfl) b4
      rw [hcl] at hdn
      unfold obT
      dsimp only [un3]
      rw [if_neg (nI_ge (by omega) (by omega)), b6, Option.bind_some]
      dsimp only [un2]
      rw [b7, Option.bind_some, tw_wholeSet b8.1 b4 (by omega), Option.bind_some, tw_thereSet b8.1 b4 (by omega), Option.bind_some, hcl, ie (by omega) (by omega), rd_l (x := 5) 5 rfl (by omega) (by decide), b8.1.2.1, c1, nI_1 k]
      by_cases e : wS T2f 6 (T2f 0) = 2 ^ T2f 0 - 1
      · rw [if_pos e, if_pos (hdn.mp e), Option.bind_some, Option.bind_some, Option.bind_some, wr_l (x := 5) 5 rfl (by omega) (by decide), Option.bind_some, nI_1 a]
      · rw [if_neg e, if_neg (fun x => e (hdn.mpr x)), Option.bind_some, Option.bind_some, Option.bind_some, wr_l (x := 5) 5 rfl (by omega) (by decide), Option.bind_some]
        show some (Sum.inl (up2 h2 1 5 zf, nI a + nI 0, nI (k + 1))) = _
        rw [nI_add]
theorem pb_often {T : Tn} {z : Int32} {g h : St} {Tk : Tn} {zk : Int32} {Uk : Nat → Int32} (j : JT E L U en g h T z g h) (s : PRS g h Tk zk Uk) (ρ : Rf) (a : Int32) : PbR E L U en Tk zk Uk h ρ (kF_often E ρ g a) (tF_often h a) := by
  unfold kF_often tF_often
  rw [show tF_in a.toInt64 (1 : Int64) (60 : Int64) = kF_isIn a 1 60 from tin a 1 60]
  rcases isJ_c a (a := 1) (m := 60) (A := 1) (M := 60) rfl rfl (by omega) (by omega) with q | ⟨n, n1, n60, rfl, q⟩
  · rw [q, if_pos rfl, if_pos rfl]
    exact ⟨_, g, h, T, z, ρ, rfl, Or.inl rfl, rfl, j, s, fun _ _ _ => rfl⟩
  rw [q, if_neg c10, if_neg c10]
  obtain ⟨g2, a1, a2⟩ := bec53 g
  have k2 := j.k.tried a2
  have ko : KO 40 g2 T z := KO.into (off := 40) j.k a2
  obtain ⟨h2, d1, d2, d3, d4⟩ := tw_puts j.t
  obtain ⟨gf, hf, af, r1, r2, ⟨T', z', r3⟩, z'', r4⟩ := oft_all (hb := h2 3) j.hL j.hU j.w j.hE ko j.t d4 n60 n 0 0 z g2 h2 (by omega) (by omega) ⟨T, z, k2, fun _ _ => rfl⟩ ⟨d2, rfl⟩
  obtain ⟨g6, c1, c2⟩ := bec35 gf
  have ko' : KO 40 gf T z := by
    refine ⟨fun i x y w => ?_, ?_⟩
    · have := km_b i x
      rw [r3.2 _ (by omega)]
      exact ko.1 i x y w
    · rw [r3.2 _ (by omega)]
      exact ko.2
  have k6 := KR.from (off := 40) r3.1 ko' c2
  obtain ⟨h6, f1, f2, f3⟩ := tw_putsBack r4.1 j.t (fun i hi => by rw [r4.2]; exact d4 i hi)
  have jj : JT E L U en g h T z g6 h6 := j.new k6 f2
  refine ⟨nI af, g6, h6, T, z, upR ρ 0 2 (ρ 0 0), ?_, Or.inr rfl, ?_, jj.re, s.go jj.k.kK jj.t.tK, fun b x y => by funext i; exact jj.t.tK b i (ts3 i x y)⟩
  · rw [a1, Option.bind_some, k2.2.1]
    refine Eq.trans (congrArg (fun x => Option.bind x _) r1) ?_
    rw [Option.bind_some]
    dsimp only [un2]
    rw [c1]
    rfl
  · rw [d1, Option.bind_some]
    refine Eq.trans (congrArg (fun x => Option.bind x _) r2) ?_
    show (tF_putsBack hf).bind _ = _
    rw [f1]
    rfl
end OFT
