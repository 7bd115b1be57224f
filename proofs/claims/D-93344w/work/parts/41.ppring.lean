/-! rings: the calls; barter -/
set_option maxRecDepth 100000
/-- all rings of size m + 1 -/
def rgF (T : Tn) (m : Nat) (i : Nat) : RAcc := foC (fun p => !isW T p) (fun p a => rgA T p m [p] p (2 ^ p) a) i 0 (0, none)
theorem rgF_s (T : Tn) (m i : Nat) : rgF T m (i + 1) = if !isW T i then rgA T i m [i] i (2 ^ i) (rgF T m i) else rgF T m i := by
  unfold rgF
  rw [foC_snoc, Nat.zero_add]
theorem rgF_le {T : Tn} (w : WF T) (m : Nat) : ∀ i, (rgF T m i).1 ≤ i * 6 ^ m
  | 0 => by
    show (0 : Nat) ≤ _
    omega
  | i + 1 => by
    have ih := rgF_le w m i
    have e : (i + 1) * 6 ^ m = i * 6 ^ m + 6 ^ m := Nat.succ_mul _ _
    rw [rgF_s]
    split
    · have := rgA_le T w i m [i] i (2 ^ i) (rgF T m i)
      omega
    · have hp : 0 < 6 ^ m := Nat.pow_pos (by decide)
      omega
theorem pw6 {m : Nat} (h : m ≤ 5) : 6 ^ m ≤ 7776 := by
  have h1 : (6 : Nat) ^ m ≤ 6 ^ 5 := Nat.pow_le_pow_right (by decide) h
  have h2 : (6 : Nat) ^ 5 = 7776 := by decide
  omega
section PRI
variable {E : EE} {L : RLt} {U : Nat → Int32} {en : Nat → Nat} {g0 h0 : St} {T : Tn} {z : Int32} {g h : St}
theorem p2_64 {p : Nat} (h : p < 6) : 2 ^ p < 64 := by
  have h1 : (2 : Nat) ^ p ≤ 2 ^ 5 := Nat.pow_le_pow_right (by decide) (by omega)
  have h2 : (2 : Nat) ^ 5 = 32 := by decide
  omega
theorem kw_findRings (k : KR g0 g T z 6) (w : WF T) {m : Nat} (hm : m ≤ 5) : ∃ g', kF_findRings E g (nI (m + 1)) = some g' ∧ KR g0 g' T z 6 ∧ accR g' 24 24 (rgF T m (T 0)) := by
  have hn := w.n
  have h6 := pw6 hm
  unfold kF_findRings
  have pf1 : ∀ (s : St) (v : Int32), pf s 0 24 v = some (up2 s 0 24 v) := fun _ _ => rfl
  rw [pf1, Option.bind_some]
  have k1 := k.scr (b := 0) (i := 24) 0 rfl
  obtain ⟨t, e1, e2⟩ := iter_inv (body := un2 fun s2a s2b =>
    if (s2a 40 0) ≤ s2b then
      some (.inr s2a)
    else
      (kF_X3_isWhole s2a s2b).bind fun x5 =>
      if x5 = 0 then
        (wr s2a 23 6 (0 : Int32) s2b).bind fun g7 =>
        (kF_ringsFrom E 8 g7 (1 : Int32) (nI (m + 1)) ((1 : Int32) <<< (s2b &&& 31))).bind fun g8 =>
        some (.inl (g8, (s2b + (1 : Int32))))
      else
        some (.inl (s2a, (s2b + (1 : Int32))))) (fun i s => ∃ g', s = (g', nI i) ∧ KR g0 g' T z 6 ∧ accR g' 24 24 (rgF T m i)) (fun t => KR g0 t T z 6 ∧ accR t 24 24 (rgF T m (T 0))) (T 0)
    (by
      rintro i hi s ⟨g2, rfl, k2, ac⟩
      dsimp only [un2]
      have i6 : i < 6 := by omega
      rw [rgF_s, if_neg (show ¬ g2 40 0 ≤ nI i by rw [K_0 k2]; exact nI_ge hi (by omega)), kw_isWhole k2 w i6, Option.bind_some, iz]
      cases q : isW T i with
      | true =>
        rw [if_pos rfl, nI_1]
        refine ⟨_, rfl, g2, rfl, k2, ?_⟩
        rw [if_neg (by simp)]
        exact ac
      | false =>
        rw [if_neg (by decide)]
        obtain ⟨g3, c1, c2, c3⟩ := k2.wrK 23 6 0 (x := 0) (nI i) rfl (by omega) (by decide) rfl
        have rw2 : rowIs (g3 23) [i] := by
          rw [c3, up2_row]
          exact rowIs_snoc (l := []) rowIs_nil i
        have ac2 : accR g3 24 24 (rgF T m i) := by
          refine ⟨by rw [c3, up2_o (by decide)]; exact ac.1, fun hne => ?_⟩
          obtain ⟨r, y1, y2⟩ := ac.2 hne
          exact ⟨r, y1, by rw [c3, up2_o (by decide)]; exact y2⟩
        have hle := rgF_le w m i
        have hle2 : i * 6 ^ m ≤ 6 * 6 ^ m := Nat.mul_le_mul_right _ (by omega)
        obtain ⟨g4, d1, d2, d3, d4⟩ := kw_rings (g := g3) (E := E) w 8 m [i] i i (2 ^ i) (rgF T m i) g3 (by omega) (by simp; omega) (by simp) i6 i6 (p2_64 i6) (by omega) c2 rw2 rfl rfl ac2
        have d1' : kF_ringsFrom E 8 g3 1 (nI (m + 1)) (nI (2 ^ i)) = some g4 := by
          rw [show m + 1 = [i].length + m by simp; omega]
          exact d1
        rw [c1, Option.bind_some, nI_bit i (by omega), d1', Option.bind_some, nI_1]
        refine ⟨_, rfl, g4, rfl, d2, ?_⟩
        rw [if_pos (by simp)]
        exact d4)
    (by
      rintro s ⟨g2, rfl, k2, ac⟩
      refine ⟨g2, ?_, k2, ac⟩
      dsimp only [un2]
      rw [if_pos (show g2 40 0 ≤ nI (T 0) by rw [K_0 k2]; exact nI_le (Nat.le_refl _) (by omega))]) (T 0) 0 (up2 g 0 24 0, (0 : Int32)) (by omega) ⟨_, rfl, k1, up2_s, fun hne => absurd rfl hne⟩
  exact ⟨t, e1, e2.1, e2.2⟩
theorem tw_findRings (k : TR h0 h T z U 6) (w : WF T) {m : Nat} (hm : m ≤ 5) : ∃ h', tF_findRings h (nI (m + 1)) = some h' ∧ TR h0 h' T z U 6 ∧ accR h' 18 18 (rgF T m (T 0)) := by
  have hn := w.n
  have h6 := pw6 hm
  unfold tF_findRings
  have pf1 : ∀ (s : St) (v : Int32), pf s 0 18 v = some (up2 s 0 18 v) := fun _ _ => rfl
  rw [pf1, Option.bind_some]
  have k1 := k.scr (b := 0) (i := 18) 0 rfl
  obtain ⟨t, e1, e2⟩ := iter_inv (body := un2 fun s2a s2b =>
    (rd (s2a 1) 340 (0 : Int32)).bind fun x4 =>
    if x4 ≤ s2b then
      some (.inr s2a)
    else
      (tF_isWhole s2a s2b).bind fun x6 =>
      if x6 = 0 then
        (wr s2a 17 6 (0 : Int32) s2b).bind fun g8 =>
        (tF_circles 8 g8 (1 : Int32) ((1 : Int32) <<< (s2b &&& 31)) (nI (m + 1))).bind fun g9 =>
        some (.inl (g9, (s2b + (1 : Int32))))
      else
        some (.inl (s2a, (s2b + (1 : Int32))))) (fun i s => ∃ g', s = (g', nI i) ∧ TR h0 g' T z U 6 ∧ accR g' 18 18 (rgF T m i)) (fun t => TR h0 t T z U 6 ∧ accR t 18 18 (rgF T m (T 0))) (T 0)
    (by
      rintro i hi s ⟨g2, rfl, k2, ac⟩
      dsimp only [un2]
      have i6 : i < 6 := by omega
      rw [rgF_s, T_0 k2, Option.bind_some, if_neg (nI_ge hi (by omega)), tw_isWhole k2 w i6, Option.bind_some, iz]
      cases q : isW T i with
      | true =>
        rw [if_pos rfl, nI_1]
        refine ⟨_, rfl, g2, rfl, k2, ?_⟩
        rw [if_neg (by simp)]
        exact ac
      | false =>
        rw [if_neg (by decide)]
        obtain ⟨g3, c1, c2, c3⟩ := k2.wrS 17 6 0 (x := 0) (nI i) rfl (by omega) (by decide) rfl
        have rw2 : rowIs (g3 17) [i] := by
          rw [c3, up2_row]
          exact rowIs_snoc (l := []) rowIs_nil i
        have ac2 : accR g3 18 18 (rgF T m i) := by
          refine ⟨by rw [c3, up2_o (by decide)]; exact ac.1, fun hne => ?_⟩
          obtain ⟨r, y1, y2⟩ := ac.2 hne
          exact ⟨r, y1, by rw [c3, up2_o (by decide)]; exact y2⟩
        have hle := rgF_le w m i
        have hle2 : i * 6 ^ m ≤ 6 * 6 ^ m := Nat.mul_le_mul_right _ (by omega)
        obtain ⟨g4, d1, d2, d3, d4⟩ := tw_rings w 8 m [i] i i (2 ^ i) (rgF T m i) g3 (by omega) (by simp; omega) (by simp) i6 i6 (p2_64 i6) (by omega) c2 rw2 rfl rfl ac2
        have d1' : tF_circles 8 g3 1 (nI (2 ^ i)) (nI (m + 1)) = some g4 := by
          rw [show m + 1 = [i].length + m by simp; omega]
          exact d1
        rw [c1, Option.bind_some, nI_bit i (by omega), d1', Option.bind_some, nI_1]
        refine ⟨_, rfl, g4, rfl, d2, ?_⟩
        rw [if_pos (by simp)]
        exact d4)
    (by
      rintro s ⟨g2, rfl, k2, ac⟩
      refine ⟨g2, ?_, k2, ac⟩
      dsimp only [un2]
      rw [T_0 k2, Option.bind_some, if_pos (nI_le (Nat.le_refl _) (by omega))]) (T 0) 0 (up2 h 0 18 0, (0 : Int32)) (by omega) ⟨_, rfl, k1, up2_s, fun hne => absurd rfl hne⟩
  exact ⟨t, e1, e2.1, e2.2⟩
theorem rgF_lt (w : WF T) {m : Nat} (hm : m ≤ 5) : (rgF T m (T 0)).1 < 2 ^ 30 := by
  have h1 := rgF_le w m (T 0)
  have h2 := pw6 hm
  have h3 : T 0 * 6 ^ m ≤ 6 * 6 ^ m := Nat.mul_le_mul_right _ w.n
  omega
theorem pb_rings (j : JT E L U en g0 h0 T z g h) (a1 : Int32) : Pb E L U en g0 h0 (kF_rings E g a1) (tF_rings h a1) := by
  unfold kF_rings tF_rings
  rw [show tF_in a1.toInt64 (2 : Int64) (6 : Int64) = kF_isIn a1 2 6 from tin a1 2 6]
  rcases isJ_c a1 (a := 2) (m := 6) (A := 2) (M := 6) rfl rfl (by omega) (by omega) with q | ⟨m, h1, h2, rfl, q⟩
  · rw [q, if_pos rfl, if_pos rfl]
    exact Pb.same j rfl rfl
  obtain ⟨l, rfl⟩ : ∃ l, m = l + 1 := ⟨m - 1, by omega⟩
  rw [q, if_neg c10, if_neg c10]
  obtain ⟨g', a1, a2, a3⟩ := kw_findRings (E := E) j.k j.w (m := l) (by omega)
  obtain ⟨h', b1, b2, b3⟩ := tw_findRings j.t j.w (m := l) (by omega)
  rw [a1, b1, Option.bind_some, Option.bind_some, a3.1, b3.1]
  exact Pb.to j rfl rfl a2 b2
end PRI
