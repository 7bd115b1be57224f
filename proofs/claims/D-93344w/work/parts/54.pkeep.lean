/-! keep, feed -/
set_option maxRecDepth 100000
theorem fd_t (v : Int64) : (v &&& 255).toInt32 = nI (v.toBitVec.toNat % 256) := by
  have hl : v.toBitVec.toNat % 256 < 256 := Nat.mod_lt _ (by decide)
  apply Int32.toBitVec_inj.mp
  apply BitVec.eq_of_toNat_eq
  rw [pk_tn (by omega), Int64.toBitVec_toInt32, BitVec.signExtend_eq_setWidth_of_le _ (by decide), BitVec.toNat_setWidth, Int64.toBitVec_and, BitVec.toNat_and, show (255 : Int64).toBitVec.toNat = 2 ^ 8 - 1 from rfl, Nat.and_two_pow_sub_one_eq_mod]
  exact Nat.mod_eq_of_lt (by omega)
theorem fd_k (v : Int64) : vp_nar .byte (v.toInt32.toInt8.toInt32) = (nI (v.toBitVec.toNat % 256)).toInt8.toInt32 := by
  have hl : v.toBitVec.toNat % 256 < 256 := Nat.mod_lt _ (by decide)
  have e : v.toInt32.toInt8 = (nI (v.toBitVec.toNat % 256)).toInt8 := by
    apply Int8.toBitVec_inj.mp
    apply BitVec.eq_of_toNat_eq
    rw [Int32.toBitVec_toInt8, Int32.toBitVec_toInt8, BitVec.signExtend_eq_setWidth_of_le _ (by decide), BitVec.signExtend_eq_setWidth_of_le _ (by decide), BitVec.toNat_setWidth, BitVec.toNat_setWidth, pk_tn (by omega), Int64.toBitVec_toInt32, BitVec.signExtend_eq_setWidth_of_le _ (by decide), BitVec.toNat_setWidth]
    omega
  rw [vp_nar_byte, e, Int8.toInt8_toInt32]
section KEE
variable {g g' h h' : St} {T Tk : Tn} {z zk : Int32} {U Uk : Nat → Int32} {E : EE} {L : RLt} {en : Nat → Nat} {g0 h0 : St}
theorem pb_keep (j : JT E L U en g h T z g h) (s : PRS g h Tk zk Uk) : ∃ g' h', kF_keep g = some (1, g') ∧ tF_keep h = some (1, h') ∧ JT E L U en g' h' T z g' h' ∧ PRS g' h' T z U ∧ ∀ b, 34 ≤ b → b < 40 → h' b = h b := by
  obtain ⟨g1, a1, a2⟩ := bec43 g
  have ko : KO 20 g1 T z := KO.into (off := 20) j.k a2
  have o1 : ∀ x, ¬ (60 ≤ x ∧ x < 80) → x ≠ 0 → up2 g1 0 6 1 x = g x := fun x hx h0 => by rw [up2_o h0]; exact a2.1 x hx
  have o0 : ∀ i, i ≠ 6 → up2 g1 0 6 1 0 i = g 0 i := fun i hi => by rw [up2_row, pk_un hi, a2.1 0 (by omega)]
  obtain ⟨⟨rr, h1⟩, b1, b2, b3, b4, b5, b6⟩ := iter_inv (body := un2 fun s1a s1b =>
    if (340 : Int32) ≤ s1b then
      (pf s1a 0 3 (1 : Int32)).bind fun g3 =>
      some (Sum.inr ((1 : Int32), g3))
    else
      (rd (s1a 1) 340 s1b).bind fun x5 =>
      (wr s1a 2 340 s1b x5).bind fun g6 =>
      some (.inl (g6, (s1b + (1 : Int32))))) (fun i s => ∃ h', s = (h', nI i) ∧ (∀ b, b ≠ 2 → h' b = h b) ∧ (∀ j, j < i → h' 2 j = h 1 j)) (fun t : Int32 × St => t.1 = 1 ∧ (∀ b, b ≠ 2 → b ≠ 0 → t.2 b = h b) ∧ (∀ i, i ≠ 3 → t.2 0 i = h 0 i) ∧ t.2 0 3 = 1 ∧ ∀ j, j < 340 → t.2 2 j = h 1 j) 340
    (by
      rintro i hi s ⟨h1, rfl, f1, r1⟩
      dsimp only [un2]
      rw [if_neg (show ¬ (340 : Int32) ≤ nI i from nI_ge (b := 340) hi (by omega)), rd_n hi (by decide), Option.bind_some, wr_n hi (by decide), Option.bind_some, nI_1]
      refine ⟨_, rfl, _, rfl, fun b nb => ?_, fun j hj => ?_⟩
      · rw [up2_o nb]
        exact f1 b nb
      · rw [up2_row]
        by_cases e : j = i
        · subst e
          rw [pk_us, f1 1 (by decide)]
        · rw [pk_un e]
          exact r1 j (by omega))
    (by
      rintro s ⟨h1, rfl, f1, r1⟩
      refine ⟨((1 : Int32), up2 h1 0 3 1), rfl, rfl, fun b n2 n0 => ?_, fun i hi => ?_, ?_, fun j hj => ?_⟩
      · show up2 h1 0 3 1 b = _
        rw [up2_o n0]
        exact f1 b n2
      · show up2 h1 0 3 1 0 i = _
        rw [up2_row, pk_un hi, f1 0 (by decide)]
      · show up2 h1 0 3 1 0 3 = _
        rw [up2_row, pk_us]
      · show up2 h1 0 3 1 2 j = _
        rw [up2_o (by decide)]
        exact r1 j hj) 340 0 (h, (0 : Int32)) (by omega) ⟨h, rfl, fun _ _ => rfl, fun j hj => by omega⟩
  have b2 : rr = 1 := b2
  subst b2
  have b3 : ∀ b, b ≠ 2 → b ≠ 0 → h1 b = h b := b3
  have b4 : ∀ i, i ≠ 3 → h1 0 i = h 0 i := b4
  have b5 : h1 0 3 = 1 := b5
  have b6 : ∀ j, j < 340 → h1 2 j = h 1 j := b6
  refine ⟨up2 g1 0 6 1, h1, ?_, b1, ⟨j.1, j.2.1, j.hL, j.hE, j.hU, j.k.of (fun x a b => o1 x (by omega) (by omega)) (o0 15 (by decide)), j.t.of (b3 1 (by decide) (by decide)) (b4 4 (by decide))⟩, ⟨?_, ?_, ?_, ?_⟩, fun x a b => b3 x (by omega) (by omega)⟩
  · unfold kF_keep
    rw [a1]
    rfl
  · obtain ⟨n, tp, p1, p2, p3, p4⟩ := s.1
    refine ⟨n, tp, p1, by rw [o0 11 (by decide)]; exact p2, by rw [b4 26 (by decide)]; exact p3, fun i hi => ?_⟩
    rw [o1 11 (by omega) (by decide), b3 26 (by decide) (by decide)]
    exact p4 i hi
  · obtain ⟨n, p1, p2, p3, p4⟩ := s.2.1
    refine ⟨n, p1, by rw [o0 28 (by decide)]; exact p2, by rw [b4 24 (by decide)]; exact p3, fun i hi => ?_⟩
    rw [o1 28 (by omega) (by decide), b3 24 (by decide) (by decide)]
    exact p4 i hi
  · obtain ⟨n, p1, p2, p3, p4⟩ := s.2.2.1
    refine ⟨n, p1, by rw [o1 32 (by omega) (by decide)]; exact p2, by rw [b4 40 (by decide)]; exact p3, fun i hi => ?_⟩
    rw [o1 33 (by omega) (by decide), b3 40 (by decide) (by decide)]
    exact p4 i hi
  · refine Or.inr ⟨by rw [up2_row, pk_us], b5, ⟨fun i x y w => ?_, ?_⟩, ⟨fun i x y w => ?_, ?_, fun i x y => ?_⟩⟩
    · have := km_b i x
      rw [up2_o (by omega)]
      exact ko.1 i x y w
    · rw [up2_o (by omega)]
      exact ko.2
    · rw [b6 i (by omega)]
      exact j.t.1 i x y w
    · rw [b6 5 (by omega)]
      exact j.t.2.1
    · rw [b6 i y]
      exact j.t.2.2.1 i x
theorem pb_feed (j : JT E L U en g h T z g h) (s : PRS g h Tk zk Uk) (a : Int64) (x : Int32) : PbP E L U en Tk zk Uk h (kF_feed g a x) (tF_feed h a x) := by
  obtain ⟨n, tp, p1, p2, p3, p4⟩ := s.1
  unfold kF_feed tF_feed
  rw [show tF_in x.toInt64 (1 : Int64) (8 : Int64) = kF_isIn x 1 8 from tin x 1 8]
  rcases isJ_c x (a := 1) (m := 8) (A := 1) (M := 8) rfl rfl (by omega) (by omega) with q | ⟨m, m1, m8, rfl, q⟩
  · rw [q, if_pos rfl, if_pos rfl]
    exact ⟨_, g, h, T, z, rfl, rfl, j, s, fun _ _ _ => rfl⟩
  rw [q, if_neg c10, if_neg c10, p2, p3, nI_add, show (200 : Int32) = nI 200 from rfl, il (by omega) (by omega), il (by omega) (by omega)]
  by_cases hn : n + m ≤ 200
  rotate_left
  · rw [if_neg hn, if_neg hn]
    exact ⟨_, g, h, T, z, rfl, rfl, j, s, fun _ _ _ => rfl⟩
  rw [if_pos hn, if_pos hn]
  obtain ⟨v, hv⟩ : ∃ v : Nat → Int64, ∀ i, v i = a >>> (((8 : Int32) * nI i).toInt64 &&& 63) := ⟨_, fun _ => rfl⟩
  obtain ⟨g1, c1, c2, c3, c4⟩ := iter_inv (body := un2 fun s5a s5b =>
          if nI m ≤ s5b then
            some (.inr s5a)
          else
            (wr s5a 11 200 ((s5a 0 11) + s5b) (vp_nar .byte (((a >>> ((((8 : Int32) * s5b)).toInt64 &&& 63))).toInt32).toInt8.toInt32)).bind fun g8 =>
            some (.inl (g8, (s5b + (1 : Int32))))) (fun i s => ∃ g', s = (g', nI i) ∧ (∀ b, b ≠ 11 → g' b = g b) ∧ (∀ k, k < n → g' 11 k = g 11 k) ∧ ∀ k, k < i → g' 11 (n + k) = (nI ((v k).toBitVec.toNat % 256)).toInt8.toInt32) (fun t => (∀ b, b ≠ 11 → t b = g b) ∧ (∀ k, k < n → t 11 k = g 11 k) ∧ ∀ k, k < m → t 11 (n + k) = (nI ((v k).toBitVec.toNat % 256)).toInt8.toInt32) m
    (by
      rintro i hi s ⟨g1, rfl, f1, r1, r2⟩
      dsimp only [un2]
      rw [if_neg (show ¬ nI m ≤ nI i from nI_ge hi (by omega)), f1 0 (by decide), p2, nI_add, wr_n (by omega) (by decide), Option.bind_some, nI_1, ← hv i, fd_k]
      refine ⟨_, rfl, _, rfl, fun b nb => ?_, fun k hk => ?_, fun k hk => ?_⟩
      · rw [up2_o nb]
        exact f1 b nb
      · rw [up2_row, pk_un (by omega)]
        exact r1 k hk
      · rw [up2_row]
        by_cases e : k = i
        · subst e
          rw [pk_us]
        · rw [pk_un (by omega)]
          exact r2 k (by omega))
    (by
      rintro s ⟨g1, rfl, f1, r1, r2⟩
      refine ⟨g1, ?_, f1, r1, r2⟩
      dsimp only [un2]
      rw [if_pos (nI_le (Nat.le_refl _) (by omega))]) m 0 (g, (0 : Int32)) (by omega) ⟨g, rfl, fun _ _ => rfl, fun _ _ => rfl, fun k hk => by omega⟩
  obtain ⟨⟨rr, h1⟩, d1, d2, d3, d4, d5, d6, d7⟩ := iter_inv (body := un2 fun s2a s2b =>
        if nI m ≤ s2b then
          some (Sum.inr ((s2a 0 26), s2a))
        else
          (wr s2a 26 200 (s2a 0 26) (((a >>> ((((8 : Int32) * s2b)).toInt64 &&& 63)) &&& (255 : Int64))).toInt32).bind fun g5 =>
          (pf g5 0 26 ((g5 0 26) + (1 : Int32))).bind fun g6 =>
          some (.inl (g6, (s2b + (1 : Int32))))) (fun i s => ∃ h', s = (h', nI i) ∧ (∀ b, b ≠ 26 → b ≠ 0 → h' b = h b) ∧ (∀ k, k ≠ 26 → h' 0 k = h 0 k) ∧ h' 0 26 = nI (n + i) ∧ (∀ k, k < n → h' 26 k = h 26 k) ∧ ∀ k, k < i → h' 26 (n + k) = nI ((v k).toBitVec.toNat % 256)) (fun t : Int32 × St => t.1 = nI (n + m) ∧ (∀ b, b ≠ 26 → b ≠ 0 → t.2 b = h b) ∧ (∀ k, k ≠ 26 → t.2 0 k = h 0 k) ∧ t.2 0 26 = nI (n + m) ∧ (∀ k, k < n → t.2 26 k = h 26 k) ∧ ∀ k, k < m → t.2 26 (n + k) = nI ((v k).toBitVec.toNat % 256)) m
    (by
      rintro i hi s ⟨h1, rfl, f1, f2, f3, r1, r2⟩
      dsimp only [un2]
      rw [if_neg (show ¬ nI m ≤ nI i from nI_ge hi (by omega)), f3, wr_n (by omega) (by decide), Option.bind_some, ← hv i, fd_t, nI_1 i]
      refine ⟨_, rfl, _, rfl, fun b nb n0 => ?_, fun k hk => ?_, ?_, fun k hk => ?_, fun k hk => ?_⟩
      · rw [up2_o n0, up2_o nb]
        exact f1 b nb n0
      · rw [up2_row, pk_un hk, up2_o (by decide)]
        exact f2 k hk
      · rw [up2_row, pk_us, up2_o (by decide), f3, nI_1]
        rfl
      · rw [up2_o (by decide), up2_row, pk_un (by omega)]
        exact r1 k hk
      · rw [up2_o (by decide), up2_row]
        by_cases e : k = i
        · subst e
          rw [pk_us]
        · rw [pk_un (by omega)]
          exact r2 k (by omega))
    (by
      rintro s ⟨h1, rfl, f1, f2, f3, r1, r2⟩
      refine ⟨(h1 0 26, h1), ?_, f3, f1, f2, f3, r1, r2⟩
      dsimp only [un2]
      rw [if_pos (nI_le (Nat.le_refl _) (by omega))]) m 0 (h, (0 : Int32)) (by omega) ⟨h, rfl, fun _ _ _ => rfl, fun _ _ => rfl, p3, fun _ _ => rfl, fun k hk => by omega⟩
  have d2 : rr = nI (n + m) := d2
  subst d2
  have d3 : ∀ b, b ≠ 26 → b ≠ 0 → h1 b = h b := d3
  have d4 : ∀ k, k ≠ 26 → h1 0 k = h 0 k := d4
  have d5 : h1 0 26 = nI (n + m) := d5
  have d6 : ∀ k, k < n → h1 26 k = h 26 k := d6
  have d7 : ∀ k, k < m → h1 26 (n + k) = nI ((v k).toBitVec.toNat % 256) := d7
  have o1 : ∀ b, b ≠ 11 → b ≠ 0 → up2 g1 0 11 (nI (n + m)) b = g b := fun b nb n0 => by rw [up2_o n0]; exact c2 b nb
  have o0 : ∀ i, i ≠ 11 → up2 g1 0 11 (nI (n + m)) 0 i = g 0 i := fun i hi => by rw [up2_row, pk_un hi, c2 0 (by decide)]
  refine ⟨nI (n + m), up2 g1 0 11 (nI (n + m)), h1, T, z, ?_, d1, ⟨j.1, j.2.1, j.hL, j.hE, j.hU, j.k.of (fun x a b => o1 x (by omega) (by omega)) (o0 15 (by decide)), j.t.of (d3 1 (by decide) (by decide)) (d4 4 (by decide))⟩, ⟨?_, ?_, ?_, ?_⟩, fun x a b => d3 x (by omega) (by omega)⟩
  · refine Eq.trans (congrArg (fun x => Option.bind x _) c1) ?_
    rw [Option.bind_some, c2 0 (by decide), p2, nI_add]
    show some (up2 g1 0 11 (nI (n + m)) 0 11, up2 g1 0 11 (nI (n + m))) = _
    rw [up2_row, pk_us]
  · refine ⟨n + m, fun i => if i < n then tp i else (v (i - n)).toBitVec.toNat % 256, hn, by rw [up2_row, pk_us], d5, fun i hi => ?_⟩
    dsimp only
    by_cases q : i < n
    · rw [if_pos q, up2_o (by decide), c3 i q, d6 i q]
      exact p4 i q
    · rw [if_neg q, up2_o (by decide)]
      have e := c4 (i - n) (by omega)
      have e2 := d7 (i - n) (by omega)
      rw [show n + (i - n) = i by omega] at e e2
      exact ⟨Nat.mod_lt _ (by decide), e, e2⟩
  · obtain ⟨n, p1, p2, p3, p4⟩ := s.2.1
    refine ⟨n, p1, by rw [o0 28 (by decide)]; exact p2, by rw [d4 24 (by decide)]; exact p3, fun i hi => ?_⟩
    rw [o1 28 (by decide) (by decide), d3 24 (by decide) (by decide)]
    exact p4 i hi
  · obtain ⟨n, p1, p2, p3, p4⟩ := s.2.2.1
    refine ⟨n, p1, by rw [o1 32 (by decide) (by decide)]; exact p2, by rw [d4 40 (by decide)]; exact p3, fun i hi => ?_⟩
    rw [o1 33 (by decide) (by decide), d3 40 (by decide) (by decide)]
    exact p4 i hi
  · rcases s.2.2.2 with ⟨p1, p2⟩ | ⟨p1, p2, p3, p4⟩
    · exact Or.inl ⟨by rw [o0 6 (by decide)]; exact p1, by rw [d4 3 (by decide)]; exact p2⟩
    · refine Or.inr ⟨by rw [o0 6 (by decide)]; exact p1, by rw [d4 3 (by decide)]; exact p2, ⟨fun i x y w => ?_, ?_⟩, ⟨fun i x y w => ?_, ?_, fun i x y => ?_⟩⟩
      · have := km_b i x
        rw [o1 _ (by omega) (by omega)]
        exact p3.1 i x y w
      · rw [o1 _ (by omega) (by omega)]
        exact p3.2
      · rw [d3 2 (by decide) (by decide)]
        exact p4.1 i x y w
      · rw [d3 2 (by decide) (by decide)]
        exact p4.2.1
      · rw [d3 2 (by decide) (by decide)]
        exact p4.2.2 i x y
end KEE
